/-! DareFordModel -/
set_option maxRecDepth 100000
def RX1 : String := "DareFordModel"
def TX1 : u_T := fun k => match k with
  | 0 => ("DareFordModel", "row", "[I", true)
  | 1 => ("DareFordModel", "people", "I", false)
  | 2 => ("DareFordModel", "kinds", "[I", true)
  | 3 => ("DareFordModel", "sizes", "[I", true)
  | 4 => ("DareFordModel", "items", "[I", true)
  | 5 => ("DareFordModel", "lengths", "[I", true)
  | 6 => ("DareFordModel", "bytes", "[I", true)
  | 7 => ("DareFordModel", "asked", "I", false)
  | 8 => ("DareFordModel", "upper", "J", false)
  | 9 => ("DareFordModel", "lower", "J", false)
  | 10 => ("DareFordModel", "finding", "I", false)
  | 11 => ("DareFordModel", "findings", "[I", true)
  | 12 => ("DareFordModel", "from", "I", false)
  | 13 => ("DareFordModel", "place", "I", false)
  | 14 => ("DareFordModel", "end", "I", false)
  | 15 => ("DareFordModel", "readFord", "I", false)
  | 16 => ("DareFordModel", "readPeople", "[I", true)
  | 17 => ("DareFordModel", "readMany", "I", false)
  | 18 => ("DareFordModel", "by", "[I", true)
  | 19 => ("DareFordModel", "bestBy", "[I", true)
  | 20 => ("DareFordModel", "parts", "[I", true)
  | 21 => ("DareFordModel", "atLast", "[I", true)
  | _ => ("DareFordModel", "allChances", "J", false)
def tyX1 : Nat → FieldType := fun k => match k with
  | 0 => .array .int
  | 1 => .int
  | 2 => .array .int
  | 3 => .array .int
  | 4 => .array .int
  | 5 => .array .int
  | 6 => .array .int
  | 7 => .int
  | 8 => .long
  | 9 => .long
  | 10 => .int
  | 11 => .array .int
  | 12 => .int
  | 13 => .int
  | 14 => .int
  | 15 => .int
  | 16 => .array .int
  | 17 => .int
  | 18 => .array .int
  | 19 => .array .int
  | 20 => .array .int
  | 21 => .array .int
  | _ => .long
abbrev wsX10 : List Cond := u_ws RX1 TX1 23
set_option maxRecDepth 100000 in
theorem nmX1 : ∀ a, a < 23 → ∀ b, b < 23 → a ≠ b → (TX1 a).2.1 ≠ (TX1 b).2.1 := by decide +kernel
set_option maxRecDepth 100000 in
theorem tyX1_ok : ∀ k, k < 23 → parseFieldDescriptor (TX1 k).2.2.1 = some (tyX1 k) := by decide +kernel
abbrev cX1_init : ByteArray := prog_10_method_1_code
def yX1_init : MethodName := ⟨RX1, "<init>", "()V"⟩
def dkwX1_init_7 : List UInt8 := [79, 132, 1, 1, 167, 255, 235, 177]
abbrev dktX1_init_7 : List UInt8 := dkwX1_init_7 ++ []
def dkwX1_init_6 : List UInt8 := [188, 10, 181, 0, 47, 4, 60, 27, 7, 162, 0, 22, 42, 180, 0, 7, 17, 3, 53, 27, 104, 3, 96, 2]
abbrev dktX1_init_6 : List UInt8 := dkwX1_init_6 ++ dktX1_init_7
def dkwX1_init_5 : List UInt8 := [181, 0, 38, 42, 16, 6, 188, 10, 181, 0, 41, 42, 17, 0, 147, 188, 10, 181, 0, 44, 42, 16, 49]
abbrev dktX1_init_5 : List UInt8 := dkwX1_init_5 ++ dktX1_init_6
def dkwX1_init_4 : List UInt8 := [181, 0, 28, 42, 16, 6, 188, 10, 181, 0, 32, 42, 16, 18, 188, 10, 181, 0, 35, 42, 16, 6, 188, 10]
abbrev dktX1_init_4 : List UInt8 := dkwX1_init_4 ++ dktX1_init_5
def dkwX1_init_3 : List UInt8 := [2, 79, 89, 5, 2, 79, 89, 6, 2, 79, 181, 0, 22, 42, 17, 0, 240, 188, 10, 181, 0, 25, 42, 10]
abbrev dktX1_init_3 : List UInt8 := dkwX1_init_3 ++ dktX1_init_4
def dkwX1_init_2 : List UInt8 := [2, 79, 181, 0, 16, 42, 17, 0, 240, 188, 10, 181, 0, 19, 42, 7, 188, 10, 89, 3, 2, 79, 89, 4]
abbrev dktX1_init_2 : List UInt8 := dkwX1_init_2 ++ dktX1_init_3
def dkwX1_init_1 : List UInt8 := [188, 10, 89, 3, 2, 79, 89, 4, 2, 79, 89, 5, 2, 79, 89, 6, 2, 79, 89, 7, 2, 79, 89, 8]
abbrev dktX1_init_1 : List UInt8 := dkwX1_init_1 ++ dktX1_init_2
def dkwX1_init_0 : List UInt8 := [42, 183, 0, 1, 42, 17, 12, 233, 188, 10, 181, 0, 7, 42, 16, 6, 188, 10, 181, 0, 13, 42, 16, 6]
abbrev dktX1_init_0 : List UInt8 := dkwX1_init_0 ++ dktX1_init_1
theorem dksX1_init_0 : cX1_init.data.toList.drop 0 = dktX1_init_0 := by decide +kernel
theorem dksX1_init_1 : cX1_init.data.toList.drop 24 = dktX1_init_1 := dk_seg dksX1_init_0 24 rfl rfl
theorem dksX1_init_2 : cX1_init.data.toList.drop 48 = dktX1_init_2 := dk_seg dksX1_init_1 24 rfl rfl
theorem dksX1_init_3 : cX1_init.data.toList.drop 72 = dktX1_init_3 := dk_seg dksX1_init_2 24 rfl rfl
theorem dksX1_init_4 : cX1_init.data.toList.drop 96 = dktX1_init_4 := dk_seg dksX1_init_3 24 rfl rfl
theorem dksX1_init_5 : cX1_init.data.toList.drop 120 = dktX1_init_5 := dk_seg dksX1_init_4 24 rfl rfl
theorem dksX1_init_6 : cX1_init.data.toList.drop 143 = dktX1_init_6 := dk_seg dksX1_init_5 23 rfl rfl
theorem dksX1_init_7 : cX1_init.data.toList.drop 167 = dktX1_init_7 := dk_seg dksX1_init_6 24 rfl rfl
theorem dX1_init_0 : decode cX1_init 0 = .ok (.aload_n 0, 1) := dk_42 (dk_at dksX1_init_0 0 rfl rfl)
theorem dX1_init_1 : decode cX1_init 1 = .ok (.invokespecial 1, 3) := dk_183 0 1 (dk_at dksX1_init_0 1 rfl rfl)
theorem dX1_init_4 : decode cX1_init 4 = .ok (.aload_n 0, 1) := dk_42 (dk_at dksX1_init_0 4 rfl rfl)
theorem dX1_init_5 : decode cX1_init 5 = .ok (.sipush 3305, 3) := dk_17 12 233 (dk_at dksX1_init_0 5 rfl rfl)
theorem dX1_init_8 : decode cX1_init 8 = .ok (.newarray .int, 2) := dk_188_10 (dk_at dksX1_init_0 8 rfl rfl)
theorem dX1_init_10 : decode cX1_init 10 = .ok (.putfield 7, 3) := dk_181 0 7 (dk_at dksX1_init_0 10 rfl rfl)
theorem dX1_init_13 : decode cX1_init 13 = .ok (.aload_n 0, 1) := dk_42 (dk_at dksX1_init_0 13 rfl rfl)
theorem dX1_init_14 : decode cX1_init 14 = .ok (.bipush 6, 2) := dk_16 6 (dk_at dksX1_init_0 14 rfl rfl)
theorem dX1_init_16 : decode cX1_init 16 = .ok (.newarray .int, 2) := dk_188_10 (dk_at dksX1_init_0 16 rfl rfl)
theorem dX1_init_18 : decode cX1_init 18 = .ok (.putfield 13, 3) := dk_181 0 13 (dk_at dksX1_init_0 18 rfl rfl)
theorem dX1_init_21 : decode cX1_init 21 = .ok (.aload_n 0, 1) := dk_42 (dk_at dksX1_init_0 21 rfl rfl)
theorem dX1_init_22 : decode cX1_init 22 = .ok (.bipush 6, 2) := dk_16 6 (dk_at dksX1_init_0 22 rfl rfl)
theorem dX1_init_24 : decode cX1_init 24 = .ok (.newarray .int, 2) := dk_188_10 (dk_at dksX1_init_1 0 rfl rfl)
theorem dX1_init_26 : decode cX1_init 26 = .ok (.dup, 1) := dk_89 (dk_at dksX1_init_1 2 rfl rfl)
theorem dX1_init_27 : decode cX1_init 27 = .ok (.iconst 0, 1) := dk_3 (dk_at dksX1_init_1 3 rfl rfl)
theorem dX1_init_28 : decode cX1_init 28 = .ok (.iconst (-1), 1) := dk_2 (dk_at dksX1_init_1 4 rfl rfl)
theorem dX1_init_29 : decode cX1_init 29 = .ok (.iastore, 1) := dk_79 (dk_at dksX1_init_1 5 rfl rfl)
theorem dX1_init_30 : decode cX1_init 30 = .ok (.dup, 1) := dk_89 (dk_at dksX1_init_1 6 rfl rfl)
theorem dX1_init_31 : decode cX1_init 31 = .ok (.iconst 1, 1) := dk_4 (dk_at dksX1_init_1 7 rfl rfl)
theorem dX1_init_32 : decode cX1_init 32 = .ok (.iconst (-1), 1) := dk_2 (dk_at dksX1_init_1 8 rfl rfl)
theorem dX1_init_33 : decode cX1_init 33 = .ok (.iastore, 1) := dk_79 (dk_at dksX1_init_1 9 rfl rfl)
theorem dX1_init_34 : decode cX1_init 34 = .ok (.dup, 1) := dk_89 (dk_at dksX1_init_1 10 rfl rfl)
theorem dX1_init_35 : decode cX1_init 35 = .ok (.iconst 2, 1) := dk_5 (dk_at dksX1_init_1 11 rfl rfl)
theorem dX1_init_36 : decode cX1_init 36 = .ok (.iconst (-1), 1) := dk_2 (dk_at dksX1_init_1 12 rfl rfl)
theorem dX1_init_37 : decode cX1_init 37 = .ok (.iastore, 1) := dk_79 (dk_at dksX1_init_1 13 rfl rfl)
theorem dX1_init_38 : decode cX1_init 38 = .ok (.dup, 1) := dk_89 (dk_at dksX1_init_1 14 rfl rfl)
theorem dX1_init_39 : decode cX1_init 39 = .ok (.iconst 3, 1) := dk_6 (dk_at dksX1_init_1 15 rfl rfl)
theorem dX1_init_40 : decode cX1_init 40 = .ok (.iconst (-1), 1) := dk_2 (dk_at dksX1_init_1 16 rfl rfl)
theorem dX1_init_41 : decode cX1_init 41 = .ok (.iastore, 1) := dk_79 (dk_at dksX1_init_1 17 rfl rfl)
theorem dX1_init_42 : decode cX1_init 42 = .ok (.dup, 1) := dk_89 (dk_at dksX1_init_1 18 rfl rfl)
theorem dX1_init_43 : decode cX1_init 43 = .ok (.iconst 4, 1) := dk_7 (dk_at dksX1_init_1 19 rfl rfl)
theorem dX1_init_44 : decode cX1_init 44 = .ok (.iconst (-1), 1) := dk_2 (dk_at dksX1_init_1 20 rfl rfl)
theorem dX1_init_45 : decode cX1_init 45 = .ok (.iastore, 1) := dk_79 (dk_at dksX1_init_1 21 rfl rfl)
theorem dX1_init_46 : decode cX1_init 46 = .ok (.dup, 1) := dk_89 (dk_at dksX1_init_1 22 rfl rfl)
theorem dX1_init_47 : decode cX1_init 47 = .ok (.iconst 5, 1) := dk_8 (dk_at dksX1_init_1 23 rfl rfl)
theorem dX1_init_48 : decode cX1_init 48 = .ok (.iconst (-1), 1) := dk_2 (dk_at dksX1_init_2 0 rfl rfl)
theorem dX1_init_49 : decode cX1_init 49 = .ok (.iastore, 1) := dk_79 (dk_at dksX1_init_2 1 rfl rfl)
theorem dX1_init_50 : decode cX1_init 50 = .ok (.putfield 16, 3) := dk_181 0 16 (dk_at dksX1_init_2 2 rfl rfl)
theorem dX1_init_53 : decode cX1_init 53 = .ok (.aload_n 0, 1) := dk_42 (dk_at dksX1_init_2 5 rfl rfl)
theorem dX1_init_54 : decode cX1_init 54 = .ok (.sipush 240, 3) := dk_17 0 240 (dk_at dksX1_init_2 6 rfl rfl)
theorem dX1_init_57 : decode cX1_init 57 = .ok (.newarray .int, 2) := dk_188_10 (dk_at dksX1_init_2 9 rfl rfl)
theorem dX1_init_59 : decode cX1_init 59 = .ok (.putfield 19, 3) := dk_181 0 19 (dk_at dksX1_init_2 11 rfl rfl)
theorem dX1_init_62 : decode cX1_init 62 = .ok (.aload_n 0, 1) := dk_42 (dk_at dksX1_init_2 14 rfl rfl)
theorem dX1_init_63 : decode cX1_init 63 = .ok (.iconst 4, 1) := dk_7 (dk_at dksX1_init_2 15 rfl rfl)
theorem dX1_init_64 : decode cX1_init 64 = .ok (.newarray .int, 2) := dk_188_10 (dk_at dksX1_init_2 16 rfl rfl)
theorem dX1_init_66 : decode cX1_init 66 = .ok (.dup, 1) := dk_89 (dk_at dksX1_init_2 18 rfl rfl)
theorem dX1_init_67 : decode cX1_init 67 = .ok (.iconst 0, 1) := dk_3 (dk_at dksX1_init_2 19 rfl rfl)
theorem dX1_init_68 : decode cX1_init 68 = .ok (.iconst (-1), 1) := dk_2 (dk_at dksX1_init_2 20 rfl rfl)
theorem dX1_init_69 : decode cX1_init 69 = .ok (.iastore, 1) := dk_79 (dk_at dksX1_init_2 21 rfl rfl)
theorem dX1_init_70 : decode cX1_init 70 = .ok (.dup, 1) := dk_89 (dk_at dksX1_init_2 22 rfl rfl)
theorem dX1_init_71 : decode cX1_init 71 = .ok (.iconst 1, 1) := dk_4 (dk_at dksX1_init_2 23 rfl rfl)
theorem dX1_init_72 : decode cX1_init 72 = .ok (.iconst (-1), 1) := dk_2 (dk_at dksX1_init_3 0 rfl rfl)
theorem dX1_init_73 : decode cX1_init 73 = .ok (.iastore, 1) := dk_79 (dk_at dksX1_init_3 1 rfl rfl)
theorem dX1_init_74 : decode cX1_init 74 = .ok (.dup, 1) := dk_89 (dk_at dksX1_init_3 2 rfl rfl)
theorem dX1_init_75 : decode cX1_init 75 = .ok (.iconst 2, 1) := dk_5 (dk_at dksX1_init_3 3 rfl rfl)
theorem dX1_init_76 : decode cX1_init 76 = .ok (.iconst (-1), 1) := dk_2 (dk_at dksX1_init_3 4 rfl rfl)
theorem dX1_init_77 : decode cX1_init 77 = .ok (.iastore, 1) := dk_79 (dk_at dksX1_init_3 5 rfl rfl)
theorem dX1_init_78 : decode cX1_init 78 = .ok (.dup, 1) := dk_89 (dk_at dksX1_init_3 6 rfl rfl)
theorem dX1_init_79 : decode cX1_init 79 = .ok (.iconst 3, 1) := dk_6 (dk_at dksX1_init_3 7 rfl rfl)
theorem dX1_init_80 : decode cX1_init 80 = .ok (.iconst (-1), 1) := dk_2 (dk_at dksX1_init_3 8 rfl rfl)
theorem dX1_init_81 : decode cX1_init 81 = .ok (.iastore, 1) := dk_79 (dk_at dksX1_init_3 9 rfl rfl)
theorem dX1_init_82 : decode cX1_init 82 = .ok (.putfield 22, 3) := dk_181 0 22 (dk_at dksX1_init_3 10 rfl rfl)
theorem dX1_init_85 : decode cX1_init 85 = .ok (.aload_n 0, 1) := dk_42 (dk_at dksX1_init_3 13 rfl rfl)
theorem dX1_init_86 : decode cX1_init 86 = .ok (.sipush 240, 3) := dk_17 0 240 (dk_at dksX1_init_3 14 rfl rfl)
theorem dX1_init_89 : decode cX1_init 89 = .ok (.newarray .int, 2) := dk_188_10 (dk_at dksX1_init_3 17 rfl rfl)
theorem dX1_init_91 : decode cX1_init 91 = .ok (.putfield 25, 3) := dk_181 0 25 (dk_at dksX1_init_3 19 rfl rfl)
theorem dX1_init_94 : decode cX1_init 94 = .ok (.aload_n 0, 1) := dk_42 (dk_at dksX1_init_3 22 rfl rfl)
theorem dX1_init_95 : decode cX1_init 95 = .ok (.lconst 1, 1) := dk_10 (dk_at dksX1_init_3 23 rfl rfl)
theorem dX1_init_96 : decode cX1_init 96 = .ok (.putfield 28, 3) := dk_181 0 28 (dk_at dksX1_init_4 0 rfl rfl)
theorem dX1_init_99 : decode cX1_init 99 = .ok (.aload_n 0, 1) := dk_42 (dk_at dksX1_init_4 3 rfl rfl)
theorem dX1_init_100 : decode cX1_init 100 = .ok (.bipush 6, 2) := dk_16 6 (dk_at dksX1_init_4 4 rfl rfl)
theorem dX1_init_102 : decode cX1_init 102 = .ok (.newarray .int, 2) := dk_188_10 (dk_at dksX1_init_4 6 rfl rfl)
theorem dX1_init_104 : decode cX1_init 104 = .ok (.putfield 32, 3) := dk_181 0 32 (dk_at dksX1_init_4 8 rfl rfl)
theorem dX1_init_107 : decode cX1_init 107 = .ok (.aload_n 0, 1) := dk_42 (dk_at dksX1_init_4 11 rfl rfl)
theorem dX1_init_108 : decode cX1_init 108 = .ok (.bipush 18, 2) := dk_16 18 (dk_at dksX1_init_4 12 rfl rfl)
theorem dX1_init_110 : decode cX1_init 110 = .ok (.newarray .int, 2) := dk_188_10 (dk_at dksX1_init_4 14 rfl rfl)
theorem dX1_init_112 : decode cX1_init 112 = .ok (.putfield 35, 3) := dk_181 0 35 (dk_at dksX1_init_4 16 rfl rfl)
theorem dX1_init_115 : decode cX1_init 115 = .ok (.aload_n 0, 1) := dk_42 (dk_at dksX1_init_4 19 rfl rfl)
theorem dX1_init_116 : decode cX1_init 116 = .ok (.bipush 6, 2) := dk_16 6 (dk_at dksX1_init_4 20 rfl rfl)
theorem dX1_init_118 : decode cX1_init 118 = .ok (.newarray .int, 2) := dk_188_10 (dk_at dksX1_init_4 22 rfl rfl)
theorem dX1_init_120 : decode cX1_init 120 = .ok (.putfield 38, 3) := dk_181 0 38 (dk_at dksX1_init_5 0 rfl rfl)
theorem dX1_init_123 : decode cX1_init 123 = .ok (.aload_n 0, 1) := dk_42 (dk_at dksX1_init_5 3 rfl rfl)
theorem dX1_init_124 : decode cX1_init 124 = .ok (.bipush 6, 2) := dk_16 6 (dk_at dksX1_init_5 4 rfl rfl)
theorem dX1_init_126 : decode cX1_init 126 = .ok (.newarray .int, 2) := dk_188_10 (dk_at dksX1_init_5 6 rfl rfl)
theorem dX1_init_128 : decode cX1_init 128 = .ok (.putfield 41, 3) := dk_181 0 41 (dk_at dksX1_init_5 8 rfl rfl)
theorem dX1_init_131 : decode cX1_init 131 = .ok (.aload_n 0, 1) := dk_42 (dk_at dksX1_init_5 11 rfl rfl)
theorem dX1_init_132 : decode cX1_init 132 = .ok (.sipush 147, 3) := dk_17 0 147 (dk_at dksX1_init_5 12 rfl rfl)
theorem dX1_init_135 : decode cX1_init 135 = .ok (.newarray .int, 2) := dk_188_10 (dk_at dksX1_init_5 15 rfl rfl)
theorem dX1_init_137 : decode cX1_init 137 = .ok (.putfield 44, 3) := dk_181 0 44 (dk_at dksX1_init_5 17 rfl rfl)
theorem dX1_init_140 : decode cX1_init 140 = .ok (.aload_n 0, 1) := dk_42 (dk_at dksX1_init_5 20 rfl rfl)
theorem dX1_init_141 : decode cX1_init 141 = .ok (.bipush 49, 2) := dk_16 49 (dk_at dksX1_init_5 21 rfl rfl)
theorem dX1_init_143 : decode cX1_init 143 = .ok (.newarray .int, 2) := dk_188_10 (dk_at dksX1_init_6 0 rfl rfl)
theorem dX1_init_145 : decode cX1_init 145 = .ok (.putfield 47, 3) := dk_181 0 47 (dk_at dksX1_init_6 2 rfl rfl)
theorem dX1_init_148 : decode cX1_init 148 = .ok (.iconst 1, 1) := dk_4 (dk_at dksX1_init_6 5 rfl rfl)
theorem dX1_init_149 : decode cX1_init 149 = .ok (.istore_n 1, 1) := dk_60 (dk_at dksX1_init_6 6 rfl rfl)
theorem dX1_init_150 : decode cX1_init 150 = .ok (.iload_n 1, 1) := dk_27 (dk_at dksX1_init_6 7 rfl rfl)
theorem dX1_init_151 : decode cX1_init 151 = .ok (.iconst 4, 1) := dk_7 (dk_at dksX1_init_6 8 rfl rfl)
theorem dX1_init_152 : decode cX1_init 152 = .ok (.if_icmp .ge 22, 3) := dk_162 0 22 (dk_at dksX1_init_6 9 rfl rfl)
theorem dX1_init_155 : decode cX1_init 155 = .ok (.aload_n 0, 1) := dk_42 (dk_at dksX1_init_6 12 rfl rfl)
theorem dX1_init_156 : decode cX1_init 156 = .ok (.getfield 7, 3) := dk_180 0 7 (dk_at dksX1_init_6 13 rfl rfl)
theorem dX1_init_159 : decode cX1_init 159 = .ok (.sipush 821, 3) := dk_17 3 53 (dk_at dksX1_init_6 16 rfl rfl)
theorem dX1_init_162 : decode cX1_init 162 = .ok (.iload_n 1, 1) := dk_27 (dk_at dksX1_init_6 19 rfl rfl)
theorem dX1_init_163 : decode cX1_init 163 = .ok (.imul, 1) := dk_104 (dk_at dksX1_init_6 20 rfl rfl)
theorem dX1_init_164 : decode cX1_init 164 = .ok (.iconst 0, 1) := dk_3 (dk_at dksX1_init_6 21 rfl rfl)
theorem dX1_init_165 : decode cX1_init 165 = .ok (.iadd, 1) := dk_96 (dk_at dksX1_init_6 22 rfl rfl)
theorem dX1_init_166 : decode cX1_init 166 = .ok (.iconst (-1), 1) := dk_2 (dk_at dksX1_init_6 23 rfl rfl)
theorem dX1_init_167 : decode cX1_init 167 = .ok (.iastore, 1) := dk_79 (dk_at dksX1_init_7 0 rfl rfl)
theorem dX1_init_168 : decode cX1_init 168 = .ok (.iinc 1 1, 3) := dk_132 1 1 (dk_at dksX1_init_7 1 rfl rfl)
theorem dX1_init_171 : decode cX1_init 171 = .ok (.goto (-21), 3) := dk_167 255 235 (dk_at dksX1_init_7 4 rfl rfl)
theorem dX1_init_174 : decode cX1_init 174 = .ok (.return_, 1) := dk_177 (dk_at dksX1_init_7 7 rfl rfl)
abbrev cX1_row : ByteArray := prog_10_method_8_code
def yX1_row : MethodName := ⟨RX1, "row", "(II)I"⟩
def dkwX1_row_1 : List UInt8 := [172, 42, 27, 28, 182, 0, 73, 28, 172]
abbrev dktX1_row_1 : List UInt8 := dkwX1_row_1 ++ []
def dkwX1_row_0 : List UInt8 := [27, 184, 0, 65, 153, 0, 9, 28, 16, 40, 164, 0, 5, 2, 172, 28, 156, 0, 9, 42, 8, 182, 0, 69]
abbrev dktX1_row_0 : List UInt8 := dkwX1_row_0 ++ dktX1_row_1
theorem dksX1_row_0 : cX1_row.data.toList.drop 0 = dktX1_row_0 := by decide +kernel
theorem dksX1_row_1 : cX1_row.data.toList.drop 24 = dktX1_row_1 := dk_seg dksX1_row_0 24 rfl rfl
theorem dX1_row_0 : decode cX1_row 0 = .ok (.iload_n 1, 1) := dk_27 (dk_at dksX1_row_0 0 rfl rfl)
theorem dX1_row_1 : decode cX1_row 1 = .ok (.invokestatic 65, 3) := dk_184 0 65 (dk_at dksX1_row_0 1 rfl rfl)
theorem dX1_row_4 : decode cX1_row 4 = .ok (.ifCond .eq 9, 3) := dk_153 0 9 (dk_at dksX1_row_0 4 rfl rfl)
theorem dX1_row_7 : decode cX1_row 7 = .ok (.iload_n 2, 1) := dk_28 (dk_at dksX1_row_0 7 rfl rfl)
theorem dX1_row_8 : decode cX1_row 8 = .ok (.bipush 40, 2) := dk_16 40 (dk_at dksX1_row_0 8 rfl rfl)
theorem dX1_row_10 : decode cX1_row 10 = .ok (.if_icmp .le 5, 3) := dk_164 0 5 (dk_at dksX1_row_0 10 rfl rfl)
theorem dX1_row_13 : decode cX1_row 13 = .ok (.iconst (-1), 1) := dk_2 (dk_at dksX1_row_0 13 rfl rfl)
theorem dX1_row_14 : decode cX1_row 14 = .ok (.ireturn, 1) := dk_172 (dk_at dksX1_row_0 14 rfl rfl)
theorem dX1_row_15 : decode cX1_row 15 = .ok (.iload_n 2, 1) := dk_28 (dk_at dksX1_row_0 15 rfl rfl)
theorem dX1_row_16 : decode cX1_row 16 = .ok (.ifCond .ge 9, 3) := dk_156 0 9 (dk_at dksX1_row_0 16 rfl rfl)
theorem dX1_row_19 : decode cX1_row 19 = .ok (.aload_n 0, 1) := dk_42 (dk_at dksX1_row_0 19 rfl rfl)
theorem dX1_row_20 : decode cX1_row 20 = .ok (.iconst 5, 1) := dk_8 (dk_at dksX1_row_0 20 rfl rfl)
theorem dX1_row_21 : decode cX1_row 21 = .ok (.invokevirtual 69, 3) := dk_182 0 69 (dk_at dksX1_row_0 21 rfl rfl)
theorem dX1_row_24 : decode cX1_row 24 = .ok (.ireturn, 1) := dk_172 (dk_at dksX1_row_1 0 rfl rfl)
theorem dX1_row_25 : decode cX1_row 25 = .ok (.aload_n 0, 1) := dk_42 (dk_at dksX1_row_1 1 rfl rfl)
theorem dX1_row_26 : decode cX1_row 26 = .ok (.iload_n 1, 1) := dk_27 (dk_at dksX1_row_1 2 rfl rfl)
theorem dX1_row_27 : decode cX1_row 27 = .ok (.iload_n 2, 1) := dk_28 (dk_at dksX1_row_1 3 rfl rfl)
theorem dX1_row_28 : decode cX1_row 28 = .ok (.invokevirtual 73, 3) := dk_182 0 73 (dk_at dksX1_row_1 4 rfl rfl)
theorem dX1_row_31 : decode cX1_row 31 = .ok (.iload_n 2, 1) := dk_28 (dk_at dksX1_row_1 7 rfl rfl)
theorem dX1_row_32 : decode cX1_row 32 = .ok (.ireturn, 1) := dk_172 (dk_at dksX1_row_1 8 rfl rfl)
abbrev cX1_isRow : ByteArray := prog_10_method_6_code
def yX1_isRow : MethodName := ⟨RX1, "isRow", "(I)Z"⟩
def dkwX1_isRow_0 : List UInt8 := [26, 133, 9, 20, 0, 57, 184, 0, 59, 172]
abbrev dktX1_isRow_0 : List UInt8 := dkwX1_isRow_0 ++ []
theorem dksX1_isRow_0 : cX1_isRow.data.toList.drop 0 = dktX1_isRow_0 := by decide +kernel
theorem dX1_isRow_0 : decode cX1_isRow 0 = .ok (.iload_n 0, 1) := dk_26 (dk_at dksX1_isRow_0 0 rfl rfl)
theorem dX1_isRow_1 : decode cX1_isRow 1 = .ok (.i2l, 1) := dk_133 (dk_at dksX1_isRow_0 1 rfl rfl)
theorem dX1_isRow_2 : decode cX1_isRow 2 = .ok (.lconst 0, 1) := dk_9 (dk_at dksX1_isRow_0 2 rfl rfl)
theorem dX1_isRow_3 : decode cX1_isRow 3 = .ok (.ldc2_w 57, 3) := dk_20 0 57 (dk_at dksX1_isRow_0 3 rfl rfl)
theorem dX1_isRow_6 : decode cX1_isRow 6 = .ok (.invokestatic 59, 3) := dk_184 0 59 (dk_at dksX1_isRow_0 6 rfl rfl)
theorem dX1_isRow_9 : decode cX1_isRow 9 = .ok (.ireturn, 1) := dk_172 (dk_at dksX1_isRow_0 9 rfl rfl)
abbrev cX1_in : ByteArray := prog_10_method_2_code
def yX1_in : MethodName := ⟨RX1, "in", "(JJJ)Z"⟩
def dkwX1_in_0 : List UInt8 := [30, 32, 148, 155, 0, 14, 30, 22, 4, 148, 157, 0, 7, 4, 167, 0, 4, 3, 172]
abbrev dktX1_in_0 : List UInt8 := dkwX1_in_0 ++ []
theorem dksX1_in_0 : cX1_in.data.toList.drop 0 = dktX1_in_0 := by decide +kernel
theorem dX1_in_0 : decode cX1_in 0 = .ok (.lload_n 0, 1) := dk_30 (dk_at dksX1_in_0 0 rfl rfl)
theorem dX1_in_1 : decode cX1_in 1 = .ok (.lload_n 2, 1) := dk_32 (dk_at dksX1_in_0 1 rfl rfl)
theorem dX1_in_2 : decode cX1_in 2 = .ok (.lcmp, 1) := dk_148 (dk_at dksX1_in_0 2 rfl rfl)
theorem dX1_in_3 : decode cX1_in 3 = .ok (.ifCond .lt 14, 3) := dk_155 0 14 (dk_at dksX1_in_0 3 rfl rfl)
theorem dX1_in_6 : decode cX1_in 6 = .ok (.lload_n 0, 1) := dk_30 (dk_at dksX1_in_0 6 rfl rfl)
theorem dX1_in_7 : decode cX1_in 7 = .ok (.lload 4, 2) := dk_22 4 (dk_at dksX1_in_0 7 rfl rfl)
theorem dX1_in_9 : decode cX1_in 9 = .ok (.lcmp, 1) := dk_148 (dk_at dksX1_in_0 9 rfl rfl)
theorem dX1_in_10 : decode cX1_in 10 = .ok (.ifCond .gt 7, 3) := dk_157 0 7 (dk_at dksX1_in_0 10 rfl rfl)
theorem dX1_in_13 : decode cX1_in 13 = .ok (.iconst 1, 1) := dk_4 (dk_at dksX1_in_0 13 rfl rfl)
theorem dX1_in_14 : decode cX1_in 14 = .ok (.goto 4, 3) := dk_167 0 4 (dk_at dksX1_in_0 14 rfl rfl)
theorem dX1_in_17 : decode cX1_in 17 = .ok (.iconst 0, 1) := dk_3 (dk_at dksX1_in_0 17 rfl rfl)
theorem dX1_in_18 : decode cX1_in 18 = .ok (.ireturn, 1) := dk_172 (dk_at dksX1_in_0 18 rfl rfl)
abbrev cX1_find : ByteArray := prog_10_method_4_code
def yX1_find : MethodName := ⟨RX1, "find", "(I)I"⟩
def dkwX1_find_0 : List UInt8 := [42, 27, 181, 0, 50, 42, 180, 0, 32, 27, 92, 46, 4, 96, 79, 16, 253, 172]
abbrev dktX1_find_0 : List UInt8 := dkwX1_find_0 ++ []
theorem dksX1_find_0 : cX1_find.data.toList.drop 0 = dktX1_find_0 := by decide +kernel
theorem dX1_find_0 : decode cX1_find 0 = .ok (.aload_n 0, 1) := dk_42 (dk_at dksX1_find_0 0 rfl rfl)
theorem dX1_find_1 : decode cX1_find 1 = .ok (.iload_n 1, 1) := dk_27 (dk_at dksX1_find_0 1 rfl rfl)
theorem dX1_find_2 : decode cX1_find 2 = .ok (.putfield 50, 3) := dk_181 0 50 (dk_at dksX1_find_0 2 rfl rfl)
theorem dX1_find_5 : decode cX1_find 5 = .ok (.aload_n 0, 1) := dk_42 (dk_at dksX1_find_0 5 rfl rfl)
theorem dX1_find_6 : decode cX1_find 6 = .ok (.getfield 32, 3) := dk_180 0 32 (dk_at dksX1_find_0 6 rfl rfl)
theorem dX1_find_9 : decode cX1_find 9 = .ok (.iload_n 1, 1) := dk_27 (dk_at dksX1_find_0 9 rfl rfl)
theorem dX1_find_10 : decode cX1_find 10 = .ok (.dup2, 1) := dk_92 (dk_at dksX1_find_0 10 rfl rfl)
theorem dX1_find_11 : decode cX1_find 11 = .ok (.iaload, 1) := dk_46 (dk_at dksX1_find_0 11 rfl rfl)
theorem dX1_find_12 : decode cX1_find 12 = .ok (.iconst 1, 1) := dk_4 (dk_at dksX1_find_0 12 rfl rfl)
theorem dX1_find_13 : decode cX1_find 13 = .ok (.iadd, 1) := dk_96 (dk_at dksX1_find_0 13 rfl rfl)
theorem dX1_find_14 : decode cX1_find 14 = .ok (.iastore, 1) := dk_79 (dk_at dksX1_find_0 14 rfl rfl)
theorem dX1_find_15 : decode cX1_find 15 = .ok (.bipush (-3), 2) := dk_16 253 (dk_at dksX1_find_0 15 rfl rfl)
theorem dX1_find_17 : decode cX1_find 17 = .ok (.ireturn, 1) := dk_172 (dk_at dksX1_find_0 17 rfl rfl)
abbrev cX1_makeRow : ByteArray := prog_10_method_9_code
def yX1_makeRow : MethodName := ⟨RX1, "makeRow", "(II)V"⟩
def dkwX1_makeRow_1 : List UInt8 := [96, 3, 79, 132, 3, 1, 167, 255, 235, 177]
abbrev dktX1_makeRow_1 : List UInt8 := dkwX1_makeRow_1 ++ []
def dkwX1_makeRow_0 : List UInt8 := [42, 180, 0, 16, 27, 28, 79, 3, 62, 29, 16, 40, 162, 0, 21, 42, 180, 0, 19, 16, 40, 27, 104, 29]
abbrev dktX1_makeRow_0 : List UInt8 := dkwX1_makeRow_0 ++ dktX1_makeRow_1
theorem dksX1_makeRow_0 : cX1_makeRow.data.toList.drop 0 = dktX1_makeRow_0 := by decide +kernel
theorem dksX1_makeRow_1 : cX1_makeRow.data.toList.drop 24 = dktX1_makeRow_1 := dk_seg dksX1_makeRow_0 24 rfl rfl
theorem dX1_makeRow_0 : decode cX1_makeRow 0 = .ok (.aload_n 0, 1) := dk_42 (dk_at dksX1_makeRow_0 0 rfl rfl)
theorem dX1_makeRow_1 : decode cX1_makeRow 1 = .ok (.getfield 16, 3) := dk_180 0 16 (dk_at dksX1_makeRow_0 1 rfl rfl)
theorem dX1_makeRow_4 : decode cX1_makeRow 4 = .ok (.iload_n 1, 1) := dk_27 (dk_at dksX1_makeRow_0 4 rfl rfl)
theorem dX1_makeRow_5 : decode cX1_makeRow 5 = .ok (.iload_n 2, 1) := dk_28 (dk_at dksX1_makeRow_0 5 rfl rfl)
theorem dX1_makeRow_6 : decode cX1_makeRow 6 = .ok (.iastore, 1) := dk_79 (dk_at dksX1_makeRow_0 6 rfl rfl)
theorem dX1_makeRow_7 : decode cX1_makeRow 7 = .ok (.iconst 0, 1) := dk_3 (dk_at dksX1_makeRow_0 7 rfl rfl)
theorem dX1_makeRow_8 : decode cX1_makeRow 8 = .ok (.istore_n 3, 1) := dk_62 (dk_at dksX1_makeRow_0 8 rfl rfl)
theorem dX1_makeRow_9 : decode cX1_makeRow 9 = .ok (.iload_n 3, 1) := dk_29 (dk_at dksX1_makeRow_0 9 rfl rfl)
theorem dX1_makeRow_10 : decode cX1_makeRow 10 = .ok (.bipush 40, 2) := dk_16 40 (dk_at dksX1_makeRow_0 10 rfl rfl)
theorem dX1_makeRow_12 : decode cX1_makeRow 12 = .ok (.if_icmp .ge 21, 3) := dk_162 0 21 (dk_at dksX1_makeRow_0 12 rfl rfl)
theorem dX1_makeRow_15 : decode cX1_makeRow 15 = .ok (.aload_n 0, 1) := dk_42 (dk_at dksX1_makeRow_0 15 rfl rfl)
theorem dX1_makeRow_16 : decode cX1_makeRow 16 = .ok (.getfield 19, 3) := dk_180 0 19 (dk_at dksX1_makeRow_0 16 rfl rfl)
theorem dX1_makeRow_19 : decode cX1_makeRow 19 = .ok (.bipush 40, 2) := dk_16 40 (dk_at dksX1_makeRow_0 19 rfl rfl)
theorem dX1_makeRow_21 : decode cX1_makeRow 21 = .ok (.iload_n 1, 1) := dk_27 (dk_at dksX1_makeRow_0 21 rfl rfl)
theorem dX1_makeRow_22 : decode cX1_makeRow 22 = .ok (.imul, 1) := dk_104 (dk_at dksX1_makeRow_0 22 rfl rfl)
theorem dX1_makeRow_23 : decode cX1_makeRow 23 = .ok (.iload_n 3, 1) := dk_29 (dk_at dksX1_makeRow_0 23 rfl rfl)
theorem dX1_makeRow_24 : decode cX1_makeRow 24 = .ok (.iadd, 1) := dk_96 (dk_at dksX1_makeRow_1 0 rfl rfl)
theorem dX1_makeRow_25 : decode cX1_makeRow 25 = .ok (.iconst 0, 1) := dk_3 (dk_at dksX1_makeRow_1 1 rfl rfl)
theorem dX1_makeRow_26 : decode cX1_makeRow 26 = .ok (.iastore, 1) := dk_79 (dk_at dksX1_makeRow_1 2 rfl rfl)
theorem dX1_makeRow_27 : decode cX1_makeRow 27 = .ok (.iinc 3 1, 3) := dk_132 3 1 (dk_at dksX1_makeRow_1 3 rfl rfl)
theorem dX1_makeRow_30 : decode cX1_makeRow 30 = .ok (.goto (-21), 3) := dk_167 255 235 (dk_at dksX1_makeRow_1 6 rfl rfl)
theorem dX1_makeRow_33 : decode cX1_makeRow 33 = .ok (.return_, 1) := dk_177 (dk_at dksX1_makeRow_1 9 rfl rfl)
abbrev cX1_lay : ByteArray := prog_10_method_11_code
def yX1_lay : MethodName := ⟨RX1, "lay", "(III)I"⟩
def dkwX1_lay_1 : List UInt8 := [28, 96, 46, 54, 5, 42, 180, 0, 19, 16, 40, 27, 104, 28, 96, 29, 79, 42, 21, 5, 182, 0, 81, 172]
abbrev dktX1_lay_1 : List UInt8 := dkwX1_lay_1 ++ []
def dkwX1_lay_0 : List UInt8 := [42, 27, 28, 182, 0, 77, 54, 4, 21, 4, 153, 0, 6, 21, 4, 172, 42, 180, 0, 19, 16, 40, 27, 104]
abbrev dktX1_lay_0 : List UInt8 := dkwX1_lay_0 ++ dktX1_lay_1
theorem dksX1_lay_0 : cX1_lay.data.toList.drop 0 = dktX1_lay_0 := by decide +kernel
theorem dksX1_lay_1 : cX1_lay.data.toList.drop 24 = dktX1_lay_1 := dk_seg dksX1_lay_0 24 rfl rfl
theorem dX1_lay_0 : decode cX1_lay 0 = .ok (.aload_n 0, 1) := dk_42 (dk_at dksX1_lay_0 0 rfl rfl)
theorem dX1_lay_1 : decode cX1_lay 1 = .ok (.iload_n 1, 1) := dk_27 (dk_at dksX1_lay_0 1 rfl rfl)
theorem dX1_lay_2 : decode cX1_lay 2 = .ok (.iload_n 2, 1) := dk_28 (dk_at dksX1_lay_0 2 rfl rfl)
theorem dX1_lay_3 : decode cX1_lay 3 = .ok (.invokevirtual 77, 3) := dk_182 0 77 (dk_at dksX1_lay_0 3 rfl rfl)
theorem dX1_lay_6 : decode cX1_lay 6 = .ok (.istore 4, 2) := dk_54 4 (dk_at dksX1_lay_0 6 rfl rfl)
theorem dX1_lay_8 : decode cX1_lay 8 = .ok (.iload 4, 2) := dk_21 4 (dk_at dksX1_lay_0 8 rfl rfl)
theorem dX1_lay_10 : decode cX1_lay 10 = .ok (.ifCond .eq 6, 3) := dk_153 0 6 (dk_at dksX1_lay_0 10 rfl rfl)
theorem dX1_lay_13 : decode cX1_lay 13 = .ok (.iload 4, 2) := dk_21 4 (dk_at dksX1_lay_0 13 rfl rfl)
theorem dX1_lay_15 : decode cX1_lay 15 = .ok (.ireturn, 1) := dk_172 (dk_at dksX1_lay_0 15 rfl rfl)
theorem dX1_lay_16 : decode cX1_lay 16 = .ok (.aload_n 0, 1) := dk_42 (dk_at dksX1_lay_0 16 rfl rfl)
theorem dX1_lay_17 : decode cX1_lay 17 = .ok (.getfield 19, 3) := dk_180 0 19 (dk_at dksX1_lay_0 17 rfl rfl)
theorem dX1_lay_20 : decode cX1_lay 20 = .ok (.bipush 40, 2) := dk_16 40 (dk_at dksX1_lay_0 20 rfl rfl)
theorem dX1_lay_22 : decode cX1_lay 22 = .ok (.iload_n 1, 1) := dk_27 (dk_at dksX1_lay_0 22 rfl rfl)
theorem dX1_lay_23 : decode cX1_lay 23 = .ok (.imul, 1) := dk_104 (dk_at dksX1_lay_0 23 rfl rfl)
theorem dX1_lay_24 : decode cX1_lay 24 = .ok (.iload_n 2, 1) := dk_28 (dk_at dksX1_lay_1 0 rfl rfl)
theorem dX1_lay_25 : decode cX1_lay 25 = .ok (.iadd, 1) := dk_96 (dk_at dksX1_lay_1 1 rfl rfl)
theorem dX1_lay_26 : decode cX1_lay 26 = .ok (.iaload, 1) := dk_46 (dk_at dksX1_lay_1 2 rfl rfl)
theorem dX1_lay_27 : decode cX1_lay 27 = .ok (.istore 5, 2) := dk_54 5 (dk_at dksX1_lay_1 3 rfl rfl)
theorem dX1_lay_29 : decode cX1_lay 29 = .ok (.aload_n 0, 1) := dk_42 (dk_at dksX1_lay_1 5 rfl rfl)
theorem dX1_lay_30 : decode cX1_lay 30 = .ok (.getfield 19, 3) := dk_180 0 19 (dk_at dksX1_lay_1 6 rfl rfl)
theorem dX1_lay_33 : decode cX1_lay 33 = .ok (.bipush 40, 2) := dk_16 40 (dk_at dksX1_lay_1 9 rfl rfl)
theorem dX1_lay_35 : decode cX1_lay 35 = .ok (.iload_n 1, 1) := dk_27 (dk_at dksX1_lay_1 11 rfl rfl)
theorem dX1_lay_36 : decode cX1_lay 36 = .ok (.imul, 1) := dk_104 (dk_at dksX1_lay_1 12 rfl rfl)
theorem dX1_lay_37 : decode cX1_lay 37 = .ok (.iload_n 2, 1) := dk_28 (dk_at dksX1_lay_1 13 rfl rfl)
theorem dX1_lay_38 : decode cX1_lay 38 = .ok (.iadd, 1) := dk_96 (dk_at dksX1_lay_1 14 rfl rfl)
theorem dX1_lay_39 : decode cX1_lay 39 = .ok (.iload_n 3, 1) := dk_29 (dk_at dksX1_lay_1 15 rfl rfl)
theorem dX1_lay_40 : decode cX1_lay 40 = .ok (.iastore, 1) := dk_79 (dk_at dksX1_lay_1 16 rfl rfl)
theorem dX1_lay_41 : decode cX1_lay 41 = .ok (.aload_n 0, 1) := dk_42 (dk_at dksX1_lay_1 17 rfl rfl)
theorem dX1_lay_42 : decode cX1_lay 42 = .ok (.iload 5, 2) := dk_21 5 (dk_at dksX1_lay_1 18 rfl rfl)
theorem dX1_lay_44 : decode cX1_lay 44 = .ok (.invokevirtual 81, 3) := dk_182 0 81 (dk_at dksX1_lay_1 20 rfl rfl)
theorem dX1_lay_47 : decode cX1_lay 47 = .ok (.ireturn, 1) := dk_172 (dk_at dksX1_lay_1 23 rfl rfl)
abbrev cX1_refused : ByteArray := prog_10_method_10_code
def yX1_refused : MethodName := ⟨RX1, "refused", "(II)I"⟩
def dkwX1_refused_2 : List UInt8 := [3, 167, 0, 8, 42, 5, 182, 0, 69, 172]
abbrev dktX1_refused_2 : List UInt8 := dkwX1_refused_2 ++ []
def dkwX1_refused_1 : List UInt8 := [182, 0, 69, 167, 0, 30, 28, 133, 9, 42, 180, 0, 16, 27, 46, 4, 100, 133, 184, 0, 59, 153, 0, 7]
abbrev dktX1_refused_1 : List UInt8 := dkwX1_refused_1 ++ dktX1_refused_2
def dkwX1_refused_0 : List UInt8 := [27, 184, 0, 65, 154, 0, 7, 2, 167, 0, 47, 42, 180, 0, 16, 27, 46, 156, 0, 11, 42, 4]
abbrev dktX1_refused_0 : List UInt8 := dkwX1_refused_0 ++ dktX1_refused_1
theorem dksX1_refused_0 : cX1_refused.data.toList.drop 0 = dktX1_refused_0 := by decide +kernel
theorem dksX1_refused_1 : cX1_refused.data.toList.drop 22 = dktX1_refused_1 := dk_seg dksX1_refused_0 22 rfl rfl
theorem dksX1_refused_2 : cX1_refused.data.toList.drop 46 = dktX1_refused_2 := dk_seg dksX1_refused_1 24 rfl rfl
theorem dX1_refused_0 : decode cX1_refused 0 = .ok (.iload_n 1, 1) := dk_27 (dk_at dksX1_refused_0 0 rfl rfl)
theorem dX1_refused_1 : decode cX1_refused 1 = .ok (.invokestatic 65, 3) := dk_184 0 65 (dk_at dksX1_refused_0 1 rfl rfl)
theorem dX1_refused_4 : decode cX1_refused 4 = .ok (.ifCond .ne 7, 3) := dk_154 0 7 (dk_at dksX1_refused_0 4 rfl rfl)
theorem dX1_refused_7 : decode cX1_refused 7 = .ok (.iconst (-1), 1) := dk_2 (dk_at dksX1_refused_0 7 rfl rfl)
theorem dX1_refused_8 : decode cX1_refused 8 = .ok (.goto 47, 3) := dk_167 0 47 (dk_at dksX1_refused_0 8 rfl rfl)
theorem dX1_refused_11 : decode cX1_refused 11 = .ok (.aload_n 0, 1) := dk_42 (dk_at dksX1_refused_0 11 rfl rfl)
theorem dX1_refused_12 : decode cX1_refused 12 = .ok (.getfield 16, 3) := dk_180 0 16 (dk_at dksX1_refused_0 12 rfl rfl)
theorem dX1_refused_15 : decode cX1_refused 15 = .ok (.iload_n 1, 1) := dk_27 (dk_at dksX1_refused_0 15 rfl rfl)
theorem dX1_refused_16 : decode cX1_refused 16 = .ok (.iaload, 1) := dk_46 (dk_at dksX1_refused_0 16 rfl rfl)
theorem dX1_refused_17 : decode cX1_refused 17 = .ok (.ifCond .ge 11, 3) := dk_156 0 11 (dk_at dksX1_refused_0 17 rfl rfl)
theorem dX1_refused_20 : decode cX1_refused 20 = .ok (.aload_n 0, 1) := dk_42 (dk_at dksX1_refused_0 20 rfl rfl)
theorem dX1_refused_21 : decode cX1_refused 21 = .ok (.iconst 1, 1) := dk_4 (dk_at dksX1_refused_0 21 rfl rfl)
theorem dX1_refused_22 : decode cX1_refused 22 = .ok (.invokevirtual 69, 3) := dk_182 0 69 (dk_at dksX1_refused_1 0 rfl rfl)
theorem dX1_refused_25 : decode cX1_refused 25 = .ok (.goto 30, 3) := dk_167 0 30 (dk_at dksX1_refused_1 3 rfl rfl)
theorem dX1_refused_28 : decode cX1_refused 28 = .ok (.iload_n 2, 1) := dk_28 (dk_at dksX1_refused_1 6 rfl rfl)
theorem dX1_refused_29 : decode cX1_refused 29 = .ok (.i2l, 1) := dk_133 (dk_at dksX1_refused_1 7 rfl rfl)
theorem dX1_refused_30 : decode cX1_refused 30 = .ok (.lconst 0, 1) := dk_9 (dk_at dksX1_refused_1 8 rfl rfl)
theorem dX1_refused_31 : decode cX1_refused 31 = .ok (.aload_n 0, 1) := dk_42 (dk_at dksX1_refused_1 9 rfl rfl)
theorem dX1_refused_32 : decode cX1_refused 32 = .ok (.getfield 16, 3) := dk_180 0 16 (dk_at dksX1_refused_1 10 rfl rfl)
theorem dX1_refused_35 : decode cX1_refused 35 = .ok (.iload_n 1, 1) := dk_27 (dk_at dksX1_refused_1 13 rfl rfl)
theorem dX1_refused_36 : decode cX1_refused 36 = .ok (.iaload, 1) := dk_46 (dk_at dksX1_refused_1 14 rfl rfl)
theorem dX1_refused_37 : decode cX1_refused 37 = .ok (.iconst 1, 1) := dk_4 (dk_at dksX1_refused_1 15 rfl rfl)
theorem dX1_refused_38 : decode cX1_refused 38 = .ok (.isub, 1) := dk_100 (dk_at dksX1_refused_1 16 rfl rfl)
theorem dX1_refused_39 : decode cX1_refused 39 = .ok (.i2l, 1) := dk_133 (dk_at dksX1_refused_1 17 rfl rfl)
theorem dX1_refused_40 : decode cX1_refused 40 = .ok (.invokestatic 59, 3) := dk_184 0 59 (dk_at dksX1_refused_1 18 rfl rfl)
theorem dX1_refused_43 : decode cX1_refused 43 = .ok (.ifCond .eq 7, 3) := dk_153 0 7 (dk_at dksX1_refused_1 21 rfl rfl)
theorem dX1_refused_46 : decode cX1_refused 46 = .ok (.iconst 0, 1) := dk_3 (dk_at dksX1_refused_2 0 rfl rfl)
theorem dX1_refused_47 : decode cX1_refused 47 = .ok (.goto 8, 3) := dk_167 0 8 (dk_at dksX1_refused_2 1 rfl rfl)
theorem dX1_refused_50 : decode cX1_refused 50 = .ok (.aload_n 0, 1) := dk_42 (dk_at dksX1_refused_2 4 rfl rfl)
theorem dX1_refused_51 : decode cX1_refused 51 = .ok (.iconst 2, 1) := dk_5 (dk_at dksX1_refused_2 5 rfl rfl)
theorem dX1_refused_52 : decode cX1_refused 52 = .ok (.invokevirtual 69, 3) := dk_182 0 69 (dk_at dksX1_refused_2 6 rfl rfl)
theorem dX1_refused_55 : decode cX1_refused 55 = .ok (.ireturn, 1) := dk_172 (dk_at dksX1_refused_2 9 rfl rfl)
abbrev cX1_tell : ByteArray := prog_10_method_5_code
def yX1_tell : MethodName := ⟨RX1, "tell", "(I)I"⟩
def dkwX1_tell_0 : List UInt8 := [42, 27, 181, 0, 54, 4, 172]
abbrev dktX1_tell_0 : List UInt8 := dkwX1_tell_0 ++ []
theorem dksX1_tell_0 : cX1_tell.data.toList.drop 0 = dktX1_tell_0 := by decide +kernel
theorem dX1_tell_0 : decode cX1_tell 0 = .ok (.aload_n 0, 1) := dk_42 (dk_at dksX1_tell_0 0 rfl rfl)
theorem dX1_tell_1 : decode cX1_tell 1 = .ok (.iload_n 1, 1) := dk_27 (dk_at dksX1_tell_0 1 rfl rfl)
theorem dX1_tell_2 : decode cX1_tell 2 = .ok (.putfield 54, 3) := dk_181 0 54 (dk_at dksX1_tell_0 2 rfl rfl)
theorem dX1_tell_5 : decode cX1_tell 5 = .ok (.iconst 1, 1) := dk_4 (dk_at dksX1_tell_0 5 rfl rfl)
theorem dX1_tell_6 : decode cX1_tell 6 = .ok (.ireturn, 1) := dk_172 (dk_at dksX1_tell_0 6 rfl rfl)
abbrev cX1_at : ByteArray := prog_10_method_12_code
def yX1_at : MethodName := ⟨RX1, "at", "(II)I"⟩
def dkwX1_at_1 : List UInt8 := [28, 96, 46, 182, 0, 81, 172]
abbrev dktX1_at_1 : List UInt8 := dkwX1_at_1 ++ []
def dkwX1_at_0 : List UInt8 := [42, 27, 28, 182, 0, 77, 62, 29, 153, 0, 7, 29, 167, 0, 18, 42, 42, 180, 0, 19, 16, 40, 27, 104]
abbrev dktX1_at_0 : List UInt8 := dkwX1_at_0 ++ dktX1_at_1
theorem dksX1_at_0 : cX1_at.data.toList.drop 0 = dktX1_at_0 := by decide +kernel
theorem dksX1_at_1 : cX1_at.data.toList.drop 24 = dktX1_at_1 := dk_seg dksX1_at_0 24 rfl rfl
theorem dX1_at_0 : decode cX1_at 0 = .ok (.aload_n 0, 1) := dk_42 (dk_at dksX1_at_0 0 rfl rfl)
theorem dX1_at_1 : decode cX1_at 1 = .ok (.iload_n 1, 1) := dk_27 (dk_at dksX1_at_0 1 rfl rfl)
theorem dX1_at_2 : decode cX1_at 2 = .ok (.iload_n 2, 1) := dk_28 (dk_at dksX1_at_0 2 rfl rfl)
theorem dX1_at_3 : decode cX1_at 3 = .ok (.invokevirtual 77, 3) := dk_182 0 77 (dk_at dksX1_at_0 3 rfl rfl)
theorem dX1_at_6 : decode cX1_at 6 = .ok (.istore_n 3, 1) := dk_62 (dk_at dksX1_at_0 6 rfl rfl)
theorem dX1_at_7 : decode cX1_at 7 = .ok (.iload_n 3, 1) := dk_29 (dk_at dksX1_at_0 7 rfl rfl)
theorem dX1_at_8 : decode cX1_at 8 = .ok (.ifCond .eq 7, 3) := dk_153 0 7 (dk_at dksX1_at_0 8 rfl rfl)
theorem dX1_at_11 : decode cX1_at 11 = .ok (.iload_n 3, 1) := dk_29 (dk_at dksX1_at_0 11 rfl rfl)
theorem dX1_at_12 : decode cX1_at 12 = .ok (.goto 18, 3) := dk_167 0 18 (dk_at dksX1_at_0 12 rfl rfl)
theorem dX1_at_15 : decode cX1_at 15 = .ok (.aload_n 0, 1) := dk_42 (dk_at dksX1_at_0 15 rfl rfl)
theorem dX1_at_16 : decode cX1_at 16 = .ok (.aload_n 0, 1) := dk_42 (dk_at dksX1_at_0 16 rfl rfl)
theorem dX1_at_17 : decode cX1_at 17 = .ok (.getfield 19, 3) := dk_180 0 19 (dk_at dksX1_at_0 17 rfl rfl)
theorem dX1_at_20 : decode cX1_at 20 = .ok (.bipush 40, 2) := dk_16 40 (dk_at dksX1_at_0 20 rfl rfl)
theorem dX1_at_22 : decode cX1_at 22 = .ok (.iload_n 1, 1) := dk_27 (dk_at dksX1_at_0 22 rfl rfl)
theorem dX1_at_23 : decode cX1_at 23 = .ok (.imul, 1) := dk_104 (dk_at dksX1_at_0 23 rfl rfl)
theorem dX1_at_24 : decode cX1_at 24 = .ok (.iload_n 2, 1) := dk_28 (dk_at dksX1_at_1 0 rfl rfl)
theorem dX1_at_25 : decode cX1_at 25 = .ok (.iadd, 1) := dk_96 (dk_at dksX1_at_1 1 rfl rfl)
theorem dX1_at_26 : decode cX1_at 26 = .ok (.iaload, 1) := dk_46 (dk_at dksX1_at_1 2 rfl rfl)
theorem dX1_at_27 : decode cX1_at 27 = .ok (.invokevirtual 81, 3) := dk_182 0 81 (dk_at dksX1_at_1 3 rfl rfl)
theorem dX1_at_30 : decode cX1_at 30 = .ok (.ireturn, 1) := dk_172 (dk_at dksX1_at_1 6 rfl rfl)
abbrev cX1_tear : ByteArray := prog_10_method_13_code
def yX1_tear : MethodName := ⟨RX1, "tear", "(I)I"⟩
def dkwX1_tear_1 : List UInt8 := [42, 180, 0, 16, 27, 2, 79, 4, 172]
abbrev dktX1_tear_1 : List UInt8 := dkwX1_tear_1 ++ []
def dkwX1_tear_0 : List UInt8 := [27, 184, 0, 65, 154, 0, 5, 2, 172, 42, 180, 0, 16, 27, 46, 156, 0, 9, 42, 4, 182, 0, 69, 172]
abbrev dktX1_tear_0 : List UInt8 := dkwX1_tear_0 ++ dktX1_tear_1
theorem dksX1_tear_0 : cX1_tear.data.toList.drop 0 = dktX1_tear_0 := by decide +kernel
theorem dksX1_tear_1 : cX1_tear.data.toList.drop 24 = dktX1_tear_1 := dk_seg dksX1_tear_0 24 rfl rfl
theorem dX1_tear_0 : decode cX1_tear 0 = .ok (.iload_n 1, 1) := dk_27 (dk_at dksX1_tear_0 0 rfl rfl)
theorem dX1_tear_1 : decode cX1_tear 1 = .ok (.invokestatic 65, 3) := dk_184 0 65 (dk_at dksX1_tear_0 1 rfl rfl)
theorem dX1_tear_4 : decode cX1_tear 4 = .ok (.ifCond .ne 5, 3) := dk_154 0 5 (dk_at dksX1_tear_0 4 rfl rfl)
theorem dX1_tear_7 : decode cX1_tear 7 = .ok (.iconst (-1), 1) := dk_2 (dk_at dksX1_tear_0 7 rfl rfl)
theorem dX1_tear_8 : decode cX1_tear 8 = .ok (.ireturn, 1) := dk_172 (dk_at dksX1_tear_0 8 rfl rfl)
theorem dX1_tear_9 : decode cX1_tear 9 = .ok (.aload_n 0, 1) := dk_42 (dk_at dksX1_tear_0 9 rfl rfl)
theorem dX1_tear_10 : decode cX1_tear 10 = .ok (.getfield 16, 3) := dk_180 0 16 (dk_at dksX1_tear_0 10 rfl rfl)
theorem dX1_tear_13 : decode cX1_tear 13 = .ok (.iload_n 1, 1) := dk_27 (dk_at dksX1_tear_0 13 rfl rfl)
theorem dX1_tear_14 : decode cX1_tear 14 = .ok (.iaload, 1) := dk_46 (dk_at dksX1_tear_0 14 rfl rfl)
theorem dX1_tear_15 : decode cX1_tear 15 = .ok (.ifCond .ge 9, 3) := dk_156 0 9 (dk_at dksX1_tear_0 15 rfl rfl)
theorem dX1_tear_18 : decode cX1_tear 18 = .ok (.aload_n 0, 1) := dk_42 (dk_at dksX1_tear_0 18 rfl rfl)
theorem dX1_tear_19 : decode cX1_tear 19 = .ok (.iconst 1, 1) := dk_4 (dk_at dksX1_tear_0 19 rfl rfl)
theorem dX1_tear_20 : decode cX1_tear 20 = .ok (.invokevirtual 69, 3) := dk_182 0 69 (dk_at dksX1_tear_0 20 rfl rfl)
theorem dX1_tear_23 : decode cX1_tear 23 = .ok (.ireturn, 1) := dk_172 (dk_at dksX1_tear_0 23 rfl rfl)
theorem dX1_tear_24 : decode cX1_tear 24 = .ok (.aload_n 0, 1) := dk_42 (dk_at dksX1_tear_1 0 rfl rfl)
theorem dX1_tear_25 : decode cX1_tear 25 = .ok (.getfield 16, 3) := dk_180 0 16 (dk_at dksX1_tear_1 1 rfl rfl)
theorem dX1_tear_28 : decode cX1_tear 28 = .ok (.iload_n 1, 1) := dk_27 (dk_at dksX1_tear_1 4 rfl rfl)
theorem dX1_tear_29 : decode cX1_tear 29 = .ok (.iconst (-1), 1) := dk_2 (dk_at dksX1_tear_1 5 rfl rfl)
theorem dX1_tear_30 : decode cX1_tear 30 = .ok (.iastore, 1) := dk_79 (dk_at dksX1_tear_1 6 rfl rfl)
theorem dX1_tear_31 : decode cX1_tear 31 = .ok (.iconst 1, 1) := dk_4 (dk_at dksX1_tear_1 7 rfl rfl)
theorem dX1_tear_32 : decode cX1_tear 32 = .ok (.ireturn, 1) := dk_172 (dk_at dksX1_tear_1 8 rfl rfl)
abbrev cX1_copy : ByteArray := prog_10_method_15_code
def yX1_copy : MethodName := ⟨RX1, "copy", "(IIIII)I"⟩
def dkwX1_copy_6 : List UInt8 := [27, 104, 28, 96, 21, 8, 96, 46, 79, 132, 7, 1, 167, 255, 198, 4, 172]
abbrev dktX1_copy_6 : List UInt8 := dkwX1_copy_6 ++ []
def dkwX1_copy_5 : List UInt8 := [21, 7, 54, 8, 42, 180, 0, 19, 16, 40, 29, 104, 21, 4, 96, 21, 8, 96, 42, 180, 0, 19, 16, 40]
abbrev dktX1_copy_5 : List UInt8 := dkwX1_copy_5 ++ dktX1_copy_6
def dkwX1_copy_4 : List UInt8 := [54, 7, 21, 7, 21, 5, 162, 0, 57, 21, 6, 153, 0, 13, 21, 5, 4, 100, 21, 7, 100, 167, 0, 5]
abbrev dktX1_copy_4 : List UInt8 := dkwX1_copy_4 ++ dktX1_copy_5
def dkwX1_copy_3 : List UInt8 := [154, 0, 9, 42, 5, 182, 0, 69, 172, 28, 21, 4, 162, 0, 7, 4, 167, 0, 4, 3, 54, 6, 3]
abbrev dktX1_copy_3 : List UInt8 := dkwX1_copy_3 ++ dktX1_copy_4
def dkwX1_copy_2 : List UInt8 := [182, 0, 69, 172, 42, 27, 28, 21, 5, 182, 0, 84, 153, 0, 15, 42, 29, 21, 4, 21, 5, 182, 0, 84]
abbrev dktX1_copy_2 : List UInt8 := dkwX1_copy_2 ++ dktX1_copy_3
def dkwX1_copy_1 : List UInt8 := [182, 0, 69, 172, 42, 180, 0, 16, 27, 46, 155, 0, 12, 42, 180, 0, 16, 29, 46, 156, 0, 9, 42, 4]
abbrev dktX1_copy_1 : List UInt8 := dkwX1_copy_1 ++ dktX1_copy_2
def dkwX1_copy_0 : List UInt8 := [27, 184, 0, 65, 153, 0, 10, 29, 184, 0, 65, 154, 0, 5, 2, 172, 21, 5, 156, 0, 9, 42, 8]
abbrev dktX1_copy_0 : List UInt8 := dkwX1_copy_0 ++ dktX1_copy_1
theorem dksX1_copy_0 : cX1_copy.data.toList.drop 0 = dktX1_copy_0 := by decide +kernel
theorem dksX1_copy_1 : cX1_copy.data.toList.drop 23 = dktX1_copy_1 := dk_seg dksX1_copy_0 23 rfl rfl
theorem dksX1_copy_2 : cX1_copy.data.toList.drop 47 = dktX1_copy_2 := dk_seg dksX1_copy_1 24 rfl rfl
theorem dksX1_copy_3 : cX1_copy.data.toList.drop 71 = dktX1_copy_3 := dk_seg dksX1_copy_2 24 rfl rfl
theorem dksX1_copy_4 : cX1_copy.data.toList.drop 94 = dktX1_copy_4 := dk_seg dksX1_copy_3 23 rfl rfl
theorem dksX1_copy_5 : cX1_copy.data.toList.drop 118 = dktX1_copy_5 := dk_seg dksX1_copy_4 24 rfl rfl
theorem dksX1_copy_6 : cX1_copy.data.toList.drop 142 = dktX1_copy_6 := dk_seg dksX1_copy_5 24 rfl rfl
theorem dX1_copy_0 : decode cX1_copy 0 = .ok (.iload_n 1, 1) := dk_27 (dk_at dksX1_copy_0 0 rfl rfl)
theorem dX1_copy_1 : decode cX1_copy 1 = .ok (.invokestatic 65, 3) := dk_184 0 65 (dk_at dksX1_copy_0 1 rfl rfl)
theorem dX1_copy_4 : decode cX1_copy 4 = .ok (.ifCond .eq 10, 3) := dk_153 0 10 (dk_at dksX1_copy_0 4 rfl rfl)
theorem dX1_copy_7 : decode cX1_copy 7 = .ok (.iload_n 3, 1) := dk_29 (dk_at dksX1_copy_0 7 rfl rfl)
theorem dX1_copy_8 : decode cX1_copy 8 = .ok (.invokestatic 65, 3) := dk_184 0 65 (dk_at dksX1_copy_0 8 rfl rfl)
theorem dX1_copy_11 : decode cX1_copy 11 = .ok (.ifCond .ne 5, 3) := dk_154 0 5 (dk_at dksX1_copy_0 11 rfl rfl)
theorem dX1_copy_14 : decode cX1_copy 14 = .ok (.iconst (-1), 1) := dk_2 (dk_at dksX1_copy_0 14 rfl rfl)
theorem dX1_copy_15 : decode cX1_copy 15 = .ok (.ireturn, 1) := dk_172 (dk_at dksX1_copy_0 15 rfl rfl)
theorem dX1_copy_16 : decode cX1_copy 16 = .ok (.iload 5, 2) := dk_21 5 (dk_at dksX1_copy_0 16 rfl rfl)
theorem dX1_copy_18 : decode cX1_copy 18 = .ok (.ifCond .ge 9, 3) := dk_156 0 9 (dk_at dksX1_copy_0 18 rfl rfl)
theorem dX1_copy_21 : decode cX1_copy 21 = .ok (.aload_n 0, 1) := dk_42 (dk_at dksX1_copy_0 21 rfl rfl)
theorem dX1_copy_22 : decode cX1_copy 22 = .ok (.iconst 5, 1) := dk_8 (dk_at dksX1_copy_0 22 rfl rfl)
theorem dX1_copy_23 : decode cX1_copy 23 = .ok (.invokevirtual 69, 3) := dk_182 0 69 (dk_at dksX1_copy_1 0 rfl rfl)
theorem dX1_copy_26 : decode cX1_copy 26 = .ok (.ireturn, 1) := dk_172 (dk_at dksX1_copy_1 3 rfl rfl)
theorem dX1_copy_27 : decode cX1_copy 27 = .ok (.aload_n 0, 1) := dk_42 (dk_at dksX1_copy_1 4 rfl rfl)
theorem dX1_copy_28 : decode cX1_copy 28 = .ok (.getfield 16, 3) := dk_180 0 16 (dk_at dksX1_copy_1 5 rfl rfl)
theorem dX1_copy_31 : decode cX1_copy 31 = .ok (.iload_n 1, 1) := dk_27 (dk_at dksX1_copy_1 8 rfl rfl)
theorem dX1_copy_32 : decode cX1_copy 32 = .ok (.iaload, 1) := dk_46 (dk_at dksX1_copy_1 9 rfl rfl)
theorem dX1_copy_33 : decode cX1_copy 33 = .ok (.ifCond .lt 12, 3) := dk_155 0 12 (dk_at dksX1_copy_1 10 rfl rfl)
theorem dX1_copy_36 : decode cX1_copy 36 = .ok (.aload_n 0, 1) := dk_42 (dk_at dksX1_copy_1 13 rfl rfl)
theorem dX1_copy_37 : decode cX1_copy 37 = .ok (.getfield 16, 3) := dk_180 0 16 (dk_at dksX1_copy_1 14 rfl rfl)
theorem dX1_copy_40 : decode cX1_copy 40 = .ok (.iload_n 3, 1) := dk_29 (dk_at dksX1_copy_1 17 rfl rfl)
theorem dX1_copy_41 : decode cX1_copy 41 = .ok (.iaload, 1) := dk_46 (dk_at dksX1_copy_1 18 rfl rfl)
theorem dX1_copy_42 : decode cX1_copy 42 = .ok (.ifCond .ge 9, 3) := dk_156 0 9 (dk_at dksX1_copy_1 19 rfl rfl)
theorem dX1_copy_45 : decode cX1_copy 45 = .ok (.aload_n 0, 1) := dk_42 (dk_at dksX1_copy_1 22 rfl rfl)
theorem dX1_copy_46 : decode cX1_copy 46 = .ok (.iconst 1, 1) := dk_4 (dk_at dksX1_copy_1 23 rfl rfl)
theorem dX1_copy_47 : decode cX1_copy 47 = .ok (.invokevirtual 69, 3) := dk_182 0 69 (dk_at dksX1_copy_2 0 rfl rfl)
theorem dX1_copy_50 : decode cX1_copy 50 = .ok (.ireturn, 1) := dk_172 (dk_at dksX1_copy_2 3 rfl rfl)
theorem dX1_copy_51 : decode cX1_copy 51 = .ok (.aload_n 0, 1) := dk_42 (dk_at dksX1_copy_2 4 rfl rfl)
theorem dX1_copy_52 : decode cX1_copy 52 = .ok (.iload_n 1, 1) := dk_27 (dk_at dksX1_copy_2 5 rfl rfl)
theorem dX1_copy_53 : decode cX1_copy 53 = .ok (.iload_n 2, 1) := dk_28 (dk_at dksX1_copy_2 6 rfl rfl)
theorem dX1_copy_54 : decode cX1_copy 54 = .ok (.iload 5, 2) := dk_21 5 (dk_at dksX1_copy_2 7 rfl rfl)
theorem dX1_copy_56 : decode cX1_copy 56 = .ok (.invokevirtual 84, 3) := dk_182 0 84 (dk_at dksX1_copy_2 9 rfl rfl)
theorem dX1_copy_59 : decode cX1_copy 59 = .ok (.ifCond .eq 15, 3) := dk_153 0 15 (dk_at dksX1_copy_2 12 rfl rfl)
theorem dX1_copy_62 : decode cX1_copy 62 = .ok (.aload_n 0, 1) := dk_42 (dk_at dksX1_copy_2 15 rfl rfl)
theorem dX1_copy_63 : decode cX1_copy 63 = .ok (.iload_n 3, 1) := dk_29 (dk_at dksX1_copy_2 16 rfl rfl)
theorem dX1_copy_64 : decode cX1_copy 64 = .ok (.iload 4, 2) := dk_21 4 (dk_at dksX1_copy_2 17 rfl rfl)
theorem dX1_copy_66 : decode cX1_copy 66 = .ok (.iload 5, 2) := dk_21 5 (dk_at dksX1_copy_2 19 rfl rfl)
theorem dX1_copy_68 : decode cX1_copy 68 = .ok (.invokevirtual 84, 3) := dk_182 0 84 (dk_at dksX1_copy_2 21 rfl rfl)
theorem dX1_copy_71 : decode cX1_copy 71 = .ok (.ifCond .ne 9, 3) := dk_154 0 9 (dk_at dksX1_copy_3 0 rfl rfl)
theorem dX1_copy_74 : decode cX1_copy 74 = .ok (.aload_n 0, 1) := dk_42 (dk_at dksX1_copy_3 3 rfl rfl)
theorem dX1_copy_75 : decode cX1_copy 75 = .ok (.iconst 2, 1) := dk_5 (dk_at dksX1_copy_3 4 rfl rfl)
theorem dX1_copy_76 : decode cX1_copy 76 = .ok (.invokevirtual 69, 3) := dk_182 0 69 (dk_at dksX1_copy_3 5 rfl rfl)
theorem dX1_copy_79 : decode cX1_copy 79 = .ok (.ireturn, 1) := dk_172 (dk_at dksX1_copy_3 8 rfl rfl)
theorem dX1_copy_80 : decode cX1_copy 80 = .ok (.iload_n 2, 1) := dk_28 (dk_at dksX1_copy_3 9 rfl rfl)
theorem dX1_copy_81 : decode cX1_copy 81 = .ok (.iload 4, 2) := dk_21 4 (dk_at dksX1_copy_3 10 rfl rfl)
theorem dX1_copy_83 : decode cX1_copy 83 = .ok (.if_icmp .ge 7, 3) := dk_162 0 7 (dk_at dksX1_copy_3 12 rfl rfl)
theorem dX1_copy_86 : decode cX1_copy 86 = .ok (.iconst 1, 1) := dk_4 (dk_at dksX1_copy_3 15 rfl rfl)
theorem dX1_copy_87 : decode cX1_copy 87 = .ok (.goto 4, 3) := dk_167 0 4 (dk_at dksX1_copy_3 16 rfl rfl)
theorem dX1_copy_90 : decode cX1_copy 90 = .ok (.iconst 0, 1) := dk_3 (dk_at dksX1_copy_3 19 rfl rfl)
theorem dX1_copy_91 : decode cX1_copy 91 = .ok (.istore 6, 2) := dk_54 6 (dk_at dksX1_copy_3 20 rfl rfl)
theorem dX1_copy_93 : decode cX1_copy 93 = .ok (.iconst 0, 1) := dk_3 (dk_at dksX1_copy_3 22 rfl rfl)
theorem dX1_copy_94 : decode cX1_copy 94 = .ok (.istore 7, 2) := dk_54 7 (dk_at dksX1_copy_4 0 rfl rfl)
theorem dX1_copy_96 : decode cX1_copy 96 = .ok (.iload 7, 2) := dk_21 7 (dk_at dksX1_copy_4 2 rfl rfl)
theorem dX1_copy_98 : decode cX1_copy 98 = .ok (.iload 5, 2) := dk_21 5 (dk_at dksX1_copy_4 4 rfl rfl)
theorem dX1_copy_100 : decode cX1_copy 100 = .ok (.if_icmp .ge 57, 3) := dk_162 0 57 (dk_at dksX1_copy_4 6 rfl rfl)
theorem dX1_copy_103 : decode cX1_copy 103 = .ok (.iload 6, 2) := dk_21 6 (dk_at dksX1_copy_4 9 rfl rfl)
theorem dX1_copy_105 : decode cX1_copy 105 = .ok (.ifCond .eq 13, 3) := dk_153 0 13 (dk_at dksX1_copy_4 11 rfl rfl)
theorem dX1_copy_108 : decode cX1_copy 108 = .ok (.iload 5, 2) := dk_21 5 (dk_at dksX1_copy_4 14 rfl rfl)
theorem dX1_copy_110 : decode cX1_copy 110 = .ok (.iconst 1, 1) := dk_4 (dk_at dksX1_copy_4 16 rfl rfl)
theorem dX1_copy_111 : decode cX1_copy 111 = .ok (.isub, 1) := dk_100 (dk_at dksX1_copy_4 17 rfl rfl)
theorem dX1_copy_112 : decode cX1_copy 112 = .ok (.iload 7, 2) := dk_21 7 (dk_at dksX1_copy_4 18 rfl rfl)
theorem dX1_copy_114 : decode cX1_copy 114 = .ok (.isub, 1) := dk_100 (dk_at dksX1_copy_4 20 rfl rfl)
theorem dX1_copy_115 : decode cX1_copy 115 = .ok (.goto 5, 3) := dk_167 0 5 (dk_at dksX1_copy_4 21 rfl rfl)
theorem dX1_copy_118 : decode cX1_copy 118 = .ok (.iload 7, 2) := dk_21 7 (dk_at dksX1_copy_5 0 rfl rfl)
theorem dX1_copy_120 : decode cX1_copy 120 = .ok (.istore 8, 2) := dk_54 8 (dk_at dksX1_copy_5 2 rfl rfl)
theorem dX1_copy_122 : decode cX1_copy 122 = .ok (.aload_n 0, 1) := dk_42 (dk_at dksX1_copy_5 4 rfl rfl)
theorem dX1_copy_123 : decode cX1_copy 123 = .ok (.getfield 19, 3) := dk_180 0 19 (dk_at dksX1_copy_5 5 rfl rfl)
theorem dX1_copy_126 : decode cX1_copy 126 = .ok (.bipush 40, 2) := dk_16 40 (dk_at dksX1_copy_5 8 rfl rfl)
theorem dX1_copy_128 : decode cX1_copy 128 = .ok (.iload_n 3, 1) := dk_29 (dk_at dksX1_copy_5 10 rfl rfl)
theorem dX1_copy_129 : decode cX1_copy 129 = .ok (.imul, 1) := dk_104 (dk_at dksX1_copy_5 11 rfl rfl)
theorem dX1_copy_130 : decode cX1_copy 130 = .ok (.iload 4, 2) := dk_21 4 (dk_at dksX1_copy_5 12 rfl rfl)
theorem dX1_copy_132 : decode cX1_copy 132 = .ok (.iadd, 1) := dk_96 (dk_at dksX1_copy_5 14 rfl rfl)
theorem dX1_copy_133 : decode cX1_copy 133 = .ok (.iload 8, 2) := dk_21 8 (dk_at dksX1_copy_5 15 rfl rfl)
theorem dX1_copy_135 : decode cX1_copy 135 = .ok (.iadd, 1) := dk_96 (dk_at dksX1_copy_5 17 rfl rfl)
theorem dX1_copy_136 : decode cX1_copy 136 = .ok (.aload_n 0, 1) := dk_42 (dk_at dksX1_copy_5 18 rfl rfl)
theorem dX1_copy_137 : decode cX1_copy 137 = .ok (.getfield 19, 3) := dk_180 0 19 (dk_at dksX1_copy_5 19 rfl rfl)
theorem dX1_copy_140 : decode cX1_copy 140 = .ok (.bipush 40, 2) := dk_16 40 (dk_at dksX1_copy_5 22 rfl rfl)
theorem dX1_copy_142 : decode cX1_copy 142 = .ok (.iload_n 1, 1) := dk_27 (dk_at dksX1_copy_6 0 rfl rfl)
theorem dX1_copy_143 : decode cX1_copy 143 = .ok (.imul, 1) := dk_104 (dk_at dksX1_copy_6 1 rfl rfl)
theorem dX1_copy_144 : decode cX1_copy 144 = .ok (.iload_n 2, 1) := dk_28 (dk_at dksX1_copy_6 2 rfl rfl)
theorem dX1_copy_145 : decode cX1_copy 145 = .ok (.iadd, 1) := dk_96 (dk_at dksX1_copy_6 3 rfl rfl)
theorem dX1_copy_146 : decode cX1_copy 146 = .ok (.iload 8, 2) := dk_21 8 (dk_at dksX1_copy_6 4 rfl rfl)
theorem dX1_copy_148 : decode cX1_copy 148 = .ok (.iadd, 1) := dk_96 (dk_at dksX1_copy_6 6 rfl rfl)
theorem dX1_copy_149 : decode cX1_copy 149 = .ok (.iaload, 1) := dk_46 (dk_at dksX1_copy_6 7 rfl rfl)
theorem dX1_copy_150 : decode cX1_copy 150 = .ok (.iastore, 1) := dk_79 (dk_at dksX1_copy_6 8 rfl rfl)
theorem dX1_copy_151 : decode cX1_copy 151 = .ok (.iinc 7 1, 3) := dk_132 7 1 (dk_at dksX1_copy_6 9 rfl rfl)
theorem dX1_copy_154 : decode cX1_copy 154 = .ok (.goto (-58), 3) := dk_167 255 198 (dk_at dksX1_copy_6 12 rfl rfl)
theorem dX1_copy_157 : decode cX1_copy 157 = .ok (.iconst 1, 1) := dk_4 (dk_at dksX1_copy_6 15 rfl rfl)
theorem dX1_copy_158 : decode cX1_copy 158 = .ok (.ireturn, 1) := dk_172 (dk_at dksX1_copy_6 16 rfl rfl)
abbrev cX1_isSpan : ByteArray := prog_10_method_14_code
def yX1_isSpan : MethodName := ⟨RX1, "isSpan", "(III)Z"⟩
def dkwX1_isSpan_1 : List UInt8 := [3, 172]
abbrev dktX1_isSpan_1 : List UInt8 := dkwX1_isSpan_1 ++ []
def dkwX1_isSpan_0 : List UInt8 := [28, 155, 0, 23, 28, 133, 29, 133, 97, 42, 180, 0, 16, 27, 46, 133, 148, 157, 0, 7, 4, 167, 0, 4]
abbrev dktX1_isSpan_0 : List UInt8 := dkwX1_isSpan_0 ++ dktX1_isSpan_1
theorem dksX1_isSpan_0 : cX1_isSpan.data.toList.drop 0 = dktX1_isSpan_0 := by decide +kernel
theorem dksX1_isSpan_1 : cX1_isSpan.data.toList.drop 24 = dktX1_isSpan_1 := dk_seg dksX1_isSpan_0 24 rfl rfl
theorem dX1_isSpan_0 : decode cX1_isSpan 0 = .ok (.iload_n 2, 1) := dk_28 (dk_at dksX1_isSpan_0 0 rfl rfl)
theorem dX1_isSpan_1 : decode cX1_isSpan 1 = .ok (.ifCond .lt 23, 3) := dk_155 0 23 (dk_at dksX1_isSpan_0 1 rfl rfl)
theorem dX1_isSpan_4 : decode cX1_isSpan 4 = .ok (.iload_n 2, 1) := dk_28 (dk_at dksX1_isSpan_0 4 rfl rfl)
theorem dX1_isSpan_5 : decode cX1_isSpan 5 = .ok (.i2l, 1) := dk_133 (dk_at dksX1_isSpan_0 5 rfl rfl)
theorem dX1_isSpan_6 : decode cX1_isSpan 6 = .ok (.iload_n 3, 1) := dk_29 (dk_at dksX1_isSpan_0 6 rfl rfl)
theorem dX1_isSpan_7 : decode cX1_isSpan 7 = .ok (.i2l, 1) := dk_133 (dk_at dksX1_isSpan_0 7 rfl rfl)
theorem dX1_isSpan_8 : decode cX1_isSpan 8 = .ok (.ladd, 1) := dk_97 (dk_at dksX1_isSpan_0 8 rfl rfl)
theorem dX1_isSpan_9 : decode cX1_isSpan 9 = .ok (.aload_n 0, 1) := dk_42 (dk_at dksX1_isSpan_0 9 rfl rfl)
theorem dX1_isSpan_10 : decode cX1_isSpan 10 = .ok (.getfield 16, 3) := dk_180 0 16 (dk_at dksX1_isSpan_0 10 rfl rfl)
theorem dX1_isSpan_13 : decode cX1_isSpan 13 = .ok (.iload_n 1, 1) := dk_27 (dk_at dksX1_isSpan_0 13 rfl rfl)
theorem dX1_isSpan_14 : decode cX1_isSpan 14 = .ok (.iaload, 1) := dk_46 (dk_at dksX1_isSpan_0 14 rfl rfl)
theorem dX1_isSpan_15 : decode cX1_isSpan 15 = .ok (.i2l, 1) := dk_133 (dk_at dksX1_isSpan_0 15 rfl rfl)
theorem dX1_isSpan_16 : decode cX1_isSpan 16 = .ok (.lcmp, 1) := dk_148 (dk_at dksX1_isSpan_0 16 rfl rfl)
theorem dX1_isSpan_17 : decode cX1_isSpan 17 = .ok (.ifCond .gt 7, 3) := dk_157 0 7 (dk_at dksX1_isSpan_0 17 rfl rfl)
theorem dX1_isSpan_20 : decode cX1_isSpan 20 = .ok (.iconst 1, 1) := dk_4 (dk_at dksX1_isSpan_0 20 rfl rfl)
theorem dX1_isSpan_21 : decode cX1_isSpan 21 = .ok (.goto 4, 3) := dk_167 0 4 (dk_at dksX1_isSpan_0 21 rfl rfl)
theorem dX1_isSpan_24 : decode cX1_isSpan 24 = .ok (.iconst 0, 1) := dk_3 (dk_at dksX1_isSpan_1 0 rfl rfl)
theorem dX1_isSpan_25 : decode cX1_isSpan 25 = .ok (.ireturn, 1) := dk_172 (dk_at dksX1_isSpan_1 1 rfl rfl)
abbrev cX1_mean : ByteArray := prog_10_method_16_code
def yX1_mean : MethodName := ⟨RX1, "mean", "(I)I"⟩
def dkwX1_mean_3 : List UInt8 := [132, 4, 1, 167, 255, 226, 42, 32, 42, 180, 0, 16, 27, 46, 133, 109, 136, 182, 0, 81, 172]
abbrev dktX1_mean_3 : List UInt8 := dkwX1_mean_3 ++ []
def dkwX1_mean_2 : List UInt8 := [180, 0, 16, 27, 46, 162, 0, 25, 32, 42, 180, 0, 19, 16, 40, 27, 104, 21, 4, 96, 46, 133, 97, 65]
abbrev dktX1_mean_2 : List UInt8 := dkwX1_mean_2 ++ dktX1_mean_3
def dkwX1_mean_1 : List UInt8 := [42, 180, 0, 16, 27, 46, 154, 0, 9, 42, 7, 182, 0, 69, 172, 9, 65, 3, 54, 4, 21, 4, 42]
abbrev dktX1_mean_1 : List UInt8 := dkwX1_mean_1 ++ dktX1_mean_2
def dkwX1_mean_0 : List UInt8 := [27, 184, 0, 65, 154, 0, 5, 2, 172, 42, 180, 0, 16, 27, 46, 156, 0, 9, 42, 4, 182, 0, 69, 172]
abbrev dktX1_mean_0 : List UInt8 := dkwX1_mean_0 ++ dktX1_mean_1
theorem dksX1_mean_0 : cX1_mean.data.toList.drop 0 = dktX1_mean_0 := by decide +kernel
theorem dksX1_mean_1 : cX1_mean.data.toList.drop 24 = dktX1_mean_1 := dk_seg dksX1_mean_0 24 rfl rfl
theorem dksX1_mean_2 : cX1_mean.data.toList.drop 47 = dktX1_mean_2 := dk_seg dksX1_mean_1 23 rfl rfl
theorem dksX1_mean_3 : cX1_mean.data.toList.drop 71 = dktX1_mean_3 := dk_seg dksX1_mean_2 24 rfl rfl
theorem dX1_mean_0 : decode cX1_mean 0 = .ok (.iload_n 1, 1) := dk_27 (dk_at dksX1_mean_0 0 rfl rfl)
theorem dX1_mean_1 : decode cX1_mean 1 = .ok (.invokestatic 65, 3) := dk_184 0 65 (dk_at dksX1_mean_0 1 rfl rfl)
theorem dX1_mean_4 : decode cX1_mean 4 = .ok (.ifCond .ne 5, 3) := dk_154 0 5 (dk_at dksX1_mean_0 4 rfl rfl)
theorem dX1_mean_7 : decode cX1_mean 7 = .ok (.iconst (-1), 1) := dk_2 (dk_at dksX1_mean_0 7 rfl rfl)
theorem dX1_mean_8 : decode cX1_mean 8 = .ok (.ireturn, 1) := dk_172 (dk_at dksX1_mean_0 8 rfl rfl)
theorem dX1_mean_9 : decode cX1_mean 9 = .ok (.aload_n 0, 1) := dk_42 (dk_at dksX1_mean_0 9 rfl rfl)
theorem dX1_mean_10 : decode cX1_mean 10 = .ok (.getfield 16, 3) := dk_180 0 16 (dk_at dksX1_mean_0 10 rfl rfl)
theorem dX1_mean_13 : decode cX1_mean 13 = .ok (.iload_n 1, 1) := dk_27 (dk_at dksX1_mean_0 13 rfl rfl)
theorem dX1_mean_14 : decode cX1_mean 14 = .ok (.iaload, 1) := dk_46 (dk_at dksX1_mean_0 14 rfl rfl)
theorem dX1_mean_15 : decode cX1_mean 15 = .ok (.ifCond .ge 9, 3) := dk_156 0 9 (dk_at dksX1_mean_0 15 rfl rfl)
theorem dX1_mean_18 : decode cX1_mean 18 = .ok (.aload_n 0, 1) := dk_42 (dk_at dksX1_mean_0 18 rfl rfl)
theorem dX1_mean_19 : decode cX1_mean 19 = .ok (.iconst 1, 1) := dk_4 (dk_at dksX1_mean_0 19 rfl rfl)
theorem dX1_mean_20 : decode cX1_mean 20 = .ok (.invokevirtual 69, 3) := dk_182 0 69 (dk_at dksX1_mean_0 20 rfl rfl)
theorem dX1_mean_23 : decode cX1_mean 23 = .ok (.ireturn, 1) := dk_172 (dk_at dksX1_mean_0 23 rfl rfl)
theorem dX1_mean_24 : decode cX1_mean 24 = .ok (.aload_n 0, 1) := dk_42 (dk_at dksX1_mean_1 0 rfl rfl)
theorem dX1_mean_25 : decode cX1_mean 25 = .ok (.getfield 16, 3) := dk_180 0 16 (dk_at dksX1_mean_1 1 rfl rfl)
theorem dX1_mean_28 : decode cX1_mean 28 = .ok (.iload_n 1, 1) := dk_27 (dk_at dksX1_mean_1 4 rfl rfl)
theorem dX1_mean_29 : decode cX1_mean 29 = .ok (.iaload, 1) := dk_46 (dk_at dksX1_mean_1 5 rfl rfl)
theorem dX1_mean_30 : decode cX1_mean 30 = .ok (.ifCond .ne 9, 3) := dk_154 0 9 (dk_at dksX1_mean_1 6 rfl rfl)
theorem dX1_mean_33 : decode cX1_mean 33 = .ok (.aload_n 0, 1) := dk_42 (dk_at dksX1_mean_1 9 rfl rfl)
theorem dX1_mean_34 : decode cX1_mean 34 = .ok (.iconst 4, 1) := dk_7 (dk_at dksX1_mean_1 10 rfl rfl)
theorem dX1_mean_35 : decode cX1_mean 35 = .ok (.invokevirtual 69, 3) := dk_182 0 69 (dk_at dksX1_mean_1 11 rfl rfl)
theorem dX1_mean_38 : decode cX1_mean 38 = .ok (.ireturn, 1) := dk_172 (dk_at dksX1_mean_1 14 rfl rfl)
theorem dX1_mean_39 : decode cX1_mean 39 = .ok (.lconst 0, 1) := dk_9 (dk_at dksX1_mean_1 15 rfl rfl)
theorem dX1_mean_40 : decode cX1_mean 40 = .ok (.lstore_n 2, 1) := dk_65 (dk_at dksX1_mean_1 16 rfl rfl)
theorem dX1_mean_41 : decode cX1_mean 41 = .ok (.iconst 0, 1) := dk_3 (dk_at dksX1_mean_1 17 rfl rfl)
theorem dX1_mean_42 : decode cX1_mean 42 = .ok (.istore 4, 2) := dk_54 4 (dk_at dksX1_mean_1 18 rfl rfl)
theorem dX1_mean_44 : decode cX1_mean 44 = .ok (.iload 4, 2) := dk_21 4 (dk_at dksX1_mean_1 20 rfl rfl)
theorem dX1_mean_46 : decode cX1_mean 46 = .ok (.aload_n 0, 1) := dk_42 (dk_at dksX1_mean_1 22 rfl rfl)
theorem dX1_mean_47 : decode cX1_mean 47 = .ok (.getfield 16, 3) := dk_180 0 16 (dk_at dksX1_mean_2 0 rfl rfl)
theorem dX1_mean_50 : decode cX1_mean 50 = .ok (.iload_n 1, 1) := dk_27 (dk_at dksX1_mean_2 3 rfl rfl)
theorem dX1_mean_51 : decode cX1_mean 51 = .ok (.iaload, 1) := dk_46 (dk_at dksX1_mean_2 4 rfl rfl)
theorem dX1_mean_52 : decode cX1_mean 52 = .ok (.if_icmp .ge 25, 3) := dk_162 0 25 (dk_at dksX1_mean_2 5 rfl rfl)
theorem dX1_mean_55 : decode cX1_mean 55 = .ok (.lload_n 2, 1) := dk_32 (dk_at dksX1_mean_2 8 rfl rfl)
theorem dX1_mean_56 : decode cX1_mean 56 = .ok (.aload_n 0, 1) := dk_42 (dk_at dksX1_mean_2 9 rfl rfl)
theorem dX1_mean_57 : decode cX1_mean 57 = .ok (.getfield 19, 3) := dk_180 0 19 (dk_at dksX1_mean_2 10 rfl rfl)
theorem dX1_mean_60 : decode cX1_mean 60 = .ok (.bipush 40, 2) := dk_16 40 (dk_at dksX1_mean_2 13 rfl rfl)
theorem dX1_mean_62 : decode cX1_mean 62 = .ok (.iload_n 1, 1) := dk_27 (dk_at dksX1_mean_2 15 rfl rfl)
theorem dX1_mean_63 : decode cX1_mean 63 = .ok (.imul, 1) := dk_104 (dk_at dksX1_mean_2 16 rfl rfl)
theorem dX1_mean_64 : decode cX1_mean 64 = .ok (.iload 4, 2) := dk_21 4 (dk_at dksX1_mean_2 17 rfl rfl)
theorem dX1_mean_66 : decode cX1_mean 66 = .ok (.iadd, 1) := dk_96 (dk_at dksX1_mean_2 19 rfl rfl)
theorem dX1_mean_67 : decode cX1_mean 67 = .ok (.iaload, 1) := dk_46 (dk_at dksX1_mean_2 20 rfl rfl)
theorem dX1_mean_68 : decode cX1_mean 68 = .ok (.i2l, 1) := dk_133 (dk_at dksX1_mean_2 21 rfl rfl)
theorem dX1_mean_69 : decode cX1_mean 69 = .ok (.ladd, 1) := dk_97 (dk_at dksX1_mean_2 22 rfl rfl)
theorem dX1_mean_70 : decode cX1_mean 70 = .ok (.lstore_n 2, 1) := dk_65 (dk_at dksX1_mean_2 23 rfl rfl)
theorem dX1_mean_71 : decode cX1_mean 71 = .ok (.iinc 4 1, 3) := dk_132 4 1 (dk_at dksX1_mean_3 0 rfl rfl)
theorem dX1_mean_74 : decode cX1_mean 74 = .ok (.goto (-30), 3) := dk_167 255 226 (dk_at dksX1_mean_3 3 rfl rfl)
theorem dX1_mean_77 : decode cX1_mean 77 = .ok (.aload_n 0, 1) := dk_42 (dk_at dksX1_mean_3 6 rfl rfl)
theorem dX1_mean_78 : decode cX1_mean 78 = .ok (.lload_n 2, 1) := dk_32 (dk_at dksX1_mean_3 7 rfl rfl)
theorem dX1_mean_79 : decode cX1_mean 79 = .ok (.aload_n 0, 1) := dk_42 (dk_at dksX1_mean_3 8 rfl rfl)
theorem dX1_mean_80 : decode cX1_mean 80 = .ok (.getfield 16, 3) := dk_180 0 16 (dk_at dksX1_mean_3 9 rfl rfl)
theorem dX1_mean_83 : decode cX1_mean 83 = .ok (.iload_n 1, 1) := dk_27 (dk_at dksX1_mean_3 12 rfl rfl)
theorem dX1_mean_84 : decode cX1_mean 84 = .ok (.iaload, 1) := dk_46 (dk_at dksX1_mean_3 13 rfl rfl)
theorem dX1_mean_85 : decode cX1_mean 85 = .ok (.i2l, 1) := dk_133 (dk_at dksX1_mean_3 14 rfl rfl)
theorem dX1_mean_86 : decode cX1_mean 86 = .ok (.ldiv, 1) := dk_109 (dk_at dksX1_mean_3 15 rfl rfl)
theorem dX1_mean_87 : decode cX1_mean 87 = .ok (.l2i, 1) := dk_136 (dk_at dksX1_mean_3 16 rfl rfl)
theorem dX1_mean_88 : decode cX1_mean 88 = .ok (.invokevirtual 81, 3) := dk_182 0 81 (dk_at dksX1_mean_3 17 rfl rfl)
theorem dX1_mean_91 : decode cX1_mean 91 = .ok (.ireturn, 1) := dk_172 (dk_at dksX1_mean_3 20 rfl rfl)
abbrev cX1_text : ByteArray := prog_10_method_17_code
def yX1_text : MethodName := ⟨RX1, "text", "(II)I"⟩
def dkwX1_text_2 : List UInt8 := [29, 96, 16, 32, 79, 132, 3, 1, 167, 255, 234, 28, 172]
abbrev dktX1_text_2 : List UInt8 := dkwX1_text_2 ++ []
def dkwX1_text_1 : List UInt8 := [172, 42, 180, 0, 22, 27, 28, 79, 3, 62, 29, 16, 60, 162, 0, 22, 42, 180, 0, 25, 16, 60, 27, 104]
abbrev dktX1_text_1 : List UInt8 := dkwX1_text_1 ++ dktX1_text_2
def dkwX1_text_0 : List UInt8 := [27, 184, 0, 88, 153, 0, 9, 28, 16, 60, 164, 0, 5, 2, 172, 28, 156, 0, 9, 42, 8, 182, 0, 69]
abbrev dktX1_text_0 : List UInt8 := dkwX1_text_0 ++ dktX1_text_1
theorem dksX1_text_0 : cX1_text.data.toList.drop 0 = dktX1_text_0 := by decide +kernel
theorem dksX1_text_1 : cX1_text.data.toList.drop 24 = dktX1_text_1 := dk_seg dksX1_text_0 24 rfl rfl
theorem dksX1_text_2 : cX1_text.data.toList.drop 48 = dktX1_text_2 := dk_seg dksX1_text_1 24 rfl rfl
theorem dX1_text_0 : decode cX1_text 0 = .ok (.iload_n 1, 1) := dk_27 (dk_at dksX1_text_0 0 rfl rfl)
theorem dX1_text_1 : decode cX1_text 1 = .ok (.invokestatic 88, 3) := dk_184 0 88 (dk_at dksX1_text_0 1 rfl rfl)
theorem dX1_text_4 : decode cX1_text 4 = .ok (.ifCond .eq 9, 3) := dk_153 0 9 (dk_at dksX1_text_0 4 rfl rfl)
theorem dX1_text_7 : decode cX1_text 7 = .ok (.iload_n 2, 1) := dk_28 (dk_at dksX1_text_0 7 rfl rfl)
theorem dX1_text_8 : decode cX1_text 8 = .ok (.bipush 60, 2) := dk_16 60 (dk_at dksX1_text_0 8 rfl rfl)
theorem dX1_text_10 : decode cX1_text 10 = .ok (.if_icmp .le 5, 3) := dk_164 0 5 (dk_at dksX1_text_0 10 rfl rfl)
theorem dX1_text_13 : decode cX1_text 13 = .ok (.iconst (-1), 1) := dk_2 (dk_at dksX1_text_0 13 rfl rfl)
theorem dX1_text_14 : decode cX1_text 14 = .ok (.ireturn, 1) := dk_172 (dk_at dksX1_text_0 14 rfl rfl)
theorem dX1_text_15 : decode cX1_text 15 = .ok (.iload_n 2, 1) := dk_28 (dk_at dksX1_text_0 15 rfl rfl)
theorem dX1_text_16 : decode cX1_text 16 = .ok (.ifCond .ge 9, 3) := dk_156 0 9 (dk_at dksX1_text_0 16 rfl rfl)
theorem dX1_text_19 : decode cX1_text 19 = .ok (.aload_n 0, 1) := dk_42 (dk_at dksX1_text_0 19 rfl rfl)
theorem dX1_text_20 : decode cX1_text 20 = .ok (.iconst 5, 1) := dk_8 (dk_at dksX1_text_0 20 rfl rfl)
theorem dX1_text_21 : decode cX1_text 21 = .ok (.invokevirtual 69, 3) := dk_182 0 69 (dk_at dksX1_text_0 21 rfl rfl)
theorem dX1_text_24 : decode cX1_text 24 = .ok (.ireturn, 1) := dk_172 (dk_at dksX1_text_1 0 rfl rfl)
theorem dX1_text_25 : decode cX1_text 25 = .ok (.aload_n 0, 1) := dk_42 (dk_at dksX1_text_1 1 rfl rfl)
theorem dX1_text_26 : decode cX1_text 26 = .ok (.getfield 22, 3) := dk_180 0 22 (dk_at dksX1_text_1 2 rfl rfl)
theorem dX1_text_29 : decode cX1_text 29 = .ok (.iload_n 1, 1) := dk_27 (dk_at dksX1_text_1 5 rfl rfl)
theorem dX1_text_30 : decode cX1_text 30 = .ok (.iload_n 2, 1) := dk_28 (dk_at dksX1_text_1 6 rfl rfl)
theorem dX1_text_31 : decode cX1_text 31 = .ok (.iastore, 1) := dk_79 (dk_at dksX1_text_1 7 rfl rfl)
theorem dX1_text_32 : decode cX1_text 32 = .ok (.iconst 0, 1) := dk_3 (dk_at dksX1_text_1 8 rfl rfl)
theorem dX1_text_33 : decode cX1_text 33 = .ok (.istore_n 3, 1) := dk_62 (dk_at dksX1_text_1 9 rfl rfl)
theorem dX1_text_34 : decode cX1_text 34 = .ok (.iload_n 3, 1) := dk_29 (dk_at dksX1_text_1 10 rfl rfl)
theorem dX1_text_35 : decode cX1_text 35 = .ok (.bipush 60, 2) := dk_16 60 (dk_at dksX1_text_1 11 rfl rfl)
theorem dX1_text_37 : decode cX1_text 37 = .ok (.if_icmp .ge 22, 3) := dk_162 0 22 (dk_at dksX1_text_1 13 rfl rfl)
theorem dX1_text_40 : decode cX1_text 40 = .ok (.aload_n 0, 1) := dk_42 (dk_at dksX1_text_1 16 rfl rfl)
theorem dX1_text_41 : decode cX1_text 41 = .ok (.getfield 25, 3) := dk_180 0 25 (dk_at dksX1_text_1 17 rfl rfl)
theorem dX1_text_44 : decode cX1_text 44 = .ok (.bipush 60, 2) := dk_16 60 (dk_at dksX1_text_1 20 rfl rfl)
theorem dX1_text_46 : decode cX1_text 46 = .ok (.iload_n 1, 1) := dk_27 (dk_at dksX1_text_1 22 rfl rfl)
theorem dX1_text_47 : decode cX1_text 47 = .ok (.imul, 1) := dk_104 (dk_at dksX1_text_1 23 rfl rfl)
theorem dX1_text_48 : decode cX1_text 48 = .ok (.iload_n 3, 1) := dk_29 (dk_at dksX1_text_2 0 rfl rfl)
theorem dX1_text_49 : decode cX1_text 49 = .ok (.iadd, 1) := dk_96 (dk_at dksX1_text_2 1 rfl rfl)
theorem dX1_text_50 : decode cX1_text 50 = .ok (.bipush 32, 2) := dk_16 32 (dk_at dksX1_text_2 2 rfl rfl)
theorem dX1_text_52 : decode cX1_text 52 = .ok (.iastore, 1) := dk_79 (dk_at dksX1_text_2 4 rfl rfl)
theorem dX1_text_53 : decode cX1_text 53 = .ok (.iinc 3 1, 3) := dk_132 3 1 (dk_at dksX1_text_2 5 rfl rfl)
theorem dX1_text_56 : decode cX1_text 56 = .ok (.goto (-22), 3) := dk_167 255 234 (dk_at dksX1_text_2 8 rfl rfl)
theorem dX1_text_59 : decode cX1_text 59 = .ok (.iload_n 2, 1) := dk_28 (dk_at dksX1_text_2 11 rfl rfl)
theorem dX1_text_60 : decode cX1_text 60 = .ok (.ireturn, 1) := dk_172 (dk_at dksX1_text_2 12 rfl rfl)
abbrev cX1_isText : ByteArray := prog_10_method_7_code
def yX1_isText : MethodName := ⟨RX1, "isText", "(I)Z"⟩
def dkwX1_isText_0 : List UInt8 := [26, 133, 9, 20, 0, 63, 184, 0, 59, 172]
abbrev dktX1_isText_0 : List UInt8 := dkwX1_isText_0 ++ []
theorem dksX1_isText_0 : cX1_isText.data.toList.drop 0 = dktX1_isText_0 := by decide +kernel
theorem dX1_isText_0 : decode cX1_isText 0 = .ok (.iload_n 0, 1) := dk_26 (dk_at dksX1_isText_0 0 rfl rfl)
theorem dX1_isText_1 : decode cX1_isText 1 = .ok (.i2l, 1) := dk_133 (dk_at dksX1_isText_0 1 rfl rfl)
theorem dX1_isText_2 : decode cX1_isText 2 = .ok (.lconst 0, 1) := dk_9 (dk_at dksX1_isText_0 2 rfl rfl)
theorem dX1_isText_3 : decode cX1_isText 3 = .ok (.ldc2_w 63, 3) := dk_20 0 63 (dk_at dksX1_isText_0 3 rfl rfl)
theorem dX1_isText_6 : decode cX1_isText 6 = .ok (.invokestatic 59, 3) := dk_184 0 59 (dk_at dksX1_isText_0 6 rfl rfl)
theorem dX1_isText_9 : decode cX1_isText 9 = .ok (.ireturn, 1) := dk_172 (dk_at dksX1_isText_0 9 rfl rfl)
abbrev cX1_put : ByteArray := prog_10_method_18_code
def yX1_put : MethodName := ⟨RX1, "put", "(III)I"⟩
def dkwX1_put_3 : List UInt8 := [145, 79, 21, 4, 17, 3, 232, 96, 172]
abbrev dktX1_put_3 : List UInt8 := dkwX1_put_3 ++ []
def dkwX1_put_2 : List UInt8 := [42, 180, 0, 25, 16, 60, 27, 104, 28, 96, 46, 54, 4, 42, 180, 0, 25, 16, 60, 27, 104, 28, 96, 29]
abbrev dktX1_put_2 : List UInt8 := dkwX1_put_2 ++ dktX1_put_3
def dkwX1_put_1 : List UInt8 := [28, 133, 9, 42, 180, 0, 22, 27, 46, 4, 100, 133, 184, 0, 59, 154, 0, 9, 42, 5, 182, 0, 69, 172]
abbrev dktX1_put_1 : List UInt8 := dkwX1_put_1 ++ dktX1_put_2
def dkwX1_put_0 : List UInt8 := [27, 184, 0, 88, 154, 0, 5, 2, 172, 42, 180, 0, 22, 27, 46, 156, 0, 9, 42, 4, 182, 0, 69, 172]
abbrev dktX1_put_0 : List UInt8 := dkwX1_put_0 ++ dktX1_put_1
theorem dksX1_put_0 : cX1_put.data.toList.drop 0 = dktX1_put_0 := by decide +kernel
theorem dksX1_put_1 : cX1_put.data.toList.drop 24 = dktX1_put_1 := dk_seg dksX1_put_0 24 rfl rfl
theorem dksX1_put_2 : cX1_put.data.toList.drop 48 = dktX1_put_2 := dk_seg dksX1_put_1 24 rfl rfl
theorem dksX1_put_3 : cX1_put.data.toList.drop 72 = dktX1_put_3 := dk_seg dksX1_put_2 24 rfl rfl
theorem dX1_put_0 : decode cX1_put 0 = .ok (.iload_n 1, 1) := dk_27 (dk_at dksX1_put_0 0 rfl rfl)
theorem dX1_put_1 : decode cX1_put 1 = .ok (.invokestatic 88, 3) := dk_184 0 88 (dk_at dksX1_put_0 1 rfl rfl)
theorem dX1_put_4 : decode cX1_put 4 = .ok (.ifCond .ne 5, 3) := dk_154 0 5 (dk_at dksX1_put_0 4 rfl rfl)
theorem dX1_put_7 : decode cX1_put 7 = .ok (.iconst (-1), 1) := dk_2 (dk_at dksX1_put_0 7 rfl rfl)
theorem dX1_put_8 : decode cX1_put 8 = .ok (.ireturn, 1) := dk_172 (dk_at dksX1_put_0 8 rfl rfl)
theorem dX1_put_9 : decode cX1_put 9 = .ok (.aload_n 0, 1) := dk_42 (dk_at dksX1_put_0 9 rfl rfl)
theorem dX1_put_10 : decode cX1_put 10 = .ok (.getfield 22, 3) := dk_180 0 22 (dk_at dksX1_put_0 10 rfl rfl)
theorem dX1_put_13 : decode cX1_put 13 = .ok (.iload_n 1, 1) := dk_27 (dk_at dksX1_put_0 13 rfl rfl)
theorem dX1_put_14 : decode cX1_put 14 = .ok (.iaload, 1) := dk_46 (dk_at dksX1_put_0 14 rfl rfl)
theorem dX1_put_15 : decode cX1_put 15 = .ok (.ifCond .ge 9, 3) := dk_156 0 9 (dk_at dksX1_put_0 15 rfl rfl)
theorem dX1_put_18 : decode cX1_put 18 = .ok (.aload_n 0, 1) := dk_42 (dk_at dksX1_put_0 18 rfl rfl)
theorem dX1_put_19 : decode cX1_put 19 = .ok (.iconst 1, 1) := dk_4 (dk_at dksX1_put_0 19 rfl rfl)
theorem dX1_put_20 : decode cX1_put 20 = .ok (.invokevirtual 69, 3) := dk_182 0 69 (dk_at dksX1_put_0 20 rfl rfl)
theorem dX1_put_23 : decode cX1_put 23 = .ok (.ireturn, 1) := dk_172 (dk_at dksX1_put_0 23 rfl rfl)
theorem dX1_put_24 : decode cX1_put 24 = .ok (.iload_n 2, 1) := dk_28 (dk_at dksX1_put_1 0 rfl rfl)
theorem dX1_put_25 : decode cX1_put 25 = .ok (.i2l, 1) := dk_133 (dk_at dksX1_put_1 1 rfl rfl)
theorem dX1_put_26 : decode cX1_put 26 = .ok (.lconst 0, 1) := dk_9 (dk_at dksX1_put_1 2 rfl rfl)
theorem dX1_put_27 : decode cX1_put 27 = .ok (.aload_n 0, 1) := dk_42 (dk_at dksX1_put_1 3 rfl rfl)
theorem dX1_put_28 : decode cX1_put 28 = .ok (.getfield 22, 3) := dk_180 0 22 (dk_at dksX1_put_1 4 rfl rfl)
theorem dX1_put_31 : decode cX1_put 31 = .ok (.iload_n 1, 1) := dk_27 (dk_at dksX1_put_1 7 rfl rfl)
theorem dX1_put_32 : decode cX1_put 32 = .ok (.iaload, 1) := dk_46 (dk_at dksX1_put_1 8 rfl rfl)
theorem dX1_put_33 : decode cX1_put 33 = .ok (.iconst 1, 1) := dk_4 (dk_at dksX1_put_1 9 rfl rfl)
theorem dX1_put_34 : decode cX1_put 34 = .ok (.isub, 1) := dk_100 (dk_at dksX1_put_1 10 rfl rfl)
theorem dX1_put_35 : decode cX1_put 35 = .ok (.i2l, 1) := dk_133 (dk_at dksX1_put_1 11 rfl rfl)
theorem dX1_put_36 : decode cX1_put 36 = .ok (.invokestatic 59, 3) := dk_184 0 59 (dk_at dksX1_put_1 12 rfl rfl)
theorem dX1_put_39 : decode cX1_put 39 = .ok (.ifCond .ne 9, 3) := dk_154 0 9 (dk_at dksX1_put_1 15 rfl rfl)
theorem dX1_put_42 : decode cX1_put 42 = .ok (.aload_n 0, 1) := dk_42 (dk_at dksX1_put_1 18 rfl rfl)
theorem dX1_put_43 : decode cX1_put 43 = .ok (.iconst 2, 1) := dk_5 (dk_at dksX1_put_1 19 rfl rfl)
theorem dX1_put_44 : decode cX1_put 44 = .ok (.invokevirtual 69, 3) := dk_182 0 69 (dk_at dksX1_put_1 20 rfl rfl)
theorem dX1_put_47 : decode cX1_put 47 = .ok (.ireturn, 1) := dk_172 (dk_at dksX1_put_1 23 rfl rfl)
theorem dX1_put_48 : decode cX1_put 48 = .ok (.aload_n 0, 1) := dk_42 (dk_at dksX1_put_2 0 rfl rfl)
theorem dX1_put_49 : decode cX1_put 49 = .ok (.getfield 25, 3) := dk_180 0 25 (dk_at dksX1_put_2 1 rfl rfl)
theorem dX1_put_52 : decode cX1_put 52 = .ok (.bipush 60, 2) := dk_16 60 (dk_at dksX1_put_2 4 rfl rfl)
theorem dX1_put_54 : decode cX1_put 54 = .ok (.iload_n 1, 1) := dk_27 (dk_at dksX1_put_2 6 rfl rfl)
theorem dX1_put_55 : decode cX1_put 55 = .ok (.imul, 1) := dk_104 (dk_at dksX1_put_2 7 rfl rfl)
theorem dX1_put_56 : decode cX1_put 56 = .ok (.iload_n 2, 1) := dk_28 (dk_at dksX1_put_2 8 rfl rfl)
theorem dX1_put_57 : decode cX1_put 57 = .ok (.iadd, 1) := dk_96 (dk_at dksX1_put_2 9 rfl rfl)
theorem dX1_put_58 : decode cX1_put 58 = .ok (.iaload, 1) := dk_46 (dk_at dksX1_put_2 10 rfl rfl)
theorem dX1_put_59 : decode cX1_put 59 = .ok (.istore 4, 2) := dk_54 4 (dk_at dksX1_put_2 11 rfl rfl)
theorem dX1_put_61 : decode cX1_put 61 = .ok (.aload_n 0, 1) := dk_42 (dk_at dksX1_put_2 13 rfl rfl)
theorem dX1_put_62 : decode cX1_put 62 = .ok (.getfield 25, 3) := dk_180 0 25 (dk_at dksX1_put_2 14 rfl rfl)
theorem dX1_put_65 : decode cX1_put 65 = .ok (.bipush 60, 2) := dk_16 60 (dk_at dksX1_put_2 17 rfl rfl)
theorem dX1_put_67 : decode cX1_put 67 = .ok (.iload_n 1, 1) := dk_27 (dk_at dksX1_put_2 19 rfl rfl)
theorem dX1_put_68 : decode cX1_put 68 = .ok (.imul, 1) := dk_104 (dk_at dksX1_put_2 20 rfl rfl)
theorem dX1_put_69 : decode cX1_put 69 = .ok (.iload_n 2, 1) := dk_28 (dk_at dksX1_put_2 21 rfl rfl)
theorem dX1_put_70 : decode cX1_put 70 = .ok (.iadd, 1) := dk_96 (dk_at dksX1_put_2 22 rfl rfl)
theorem dX1_put_71 : decode cX1_put 71 = .ok (.iload_n 3, 1) := dk_29 (dk_at dksX1_put_2 23 rfl rfl)
theorem dX1_put_72 : decode cX1_put 72 = .ok (.i2b, 1) := dk_145 (dk_at dksX1_put_3 0 rfl rfl)
theorem dX1_put_73 : decode cX1_put 73 = .ok (.iastore, 1) := dk_79 (dk_at dksX1_put_3 1 rfl rfl)
theorem dX1_put_74 : decode cX1_put 74 = .ok (.iload 4, 2) := dk_21 4 (dk_at dksX1_put_3 2 rfl rfl)
theorem dX1_put_76 : decode cX1_put 76 = .ok (.sipush 1000, 3) := dk_17 3 232 (dk_at dksX1_put_3 4 rfl rfl)
theorem dX1_put_79 : decode cX1_put 79 = .ok (.iadd, 1) := dk_96 (dk_at dksX1_put_3 7 rfl rfl)
theorem dX1_put_80 : decode cX1_put 80 = .ok (.ireturn, 1) := dk_172 (dk_at dksX1_put_3 8 rfl rfl)
abbrev cX1_fault : ByteArray := prog_10_method_27_code
def yX1_fault : MethodName := ⟨RX1, "fault", "(I)I"⟩
def dkwX1_fault_1 : List UInt8 := [167, 0, 8, 42, 27, 182, 0, 133, 172]
abbrev dktX1_fault_1 : List UInt8 := dkwX1_fault_1 ++ []
def dkwX1_fault_0 : List UInt8 := [27, 184, 0, 88, 154, 0, 5, 2, 172, 42, 180, 0, 22, 27, 46, 156, 0, 11, 42, 4, 182, 0, 69]
abbrev dktX1_fault_0 : List UInt8 := dkwX1_fault_0 ++ dktX1_fault_1
theorem dksX1_fault_0 : cX1_fault.data.toList.drop 0 = dktX1_fault_0 := by decide +kernel
theorem dksX1_fault_1 : cX1_fault.data.toList.drop 23 = dktX1_fault_1 := dk_seg dksX1_fault_0 23 rfl rfl
theorem dX1_fault_0 : decode cX1_fault 0 = .ok (.iload_n 1, 1) := dk_27 (dk_at dksX1_fault_0 0 rfl rfl)
theorem dX1_fault_1 : decode cX1_fault 1 = .ok (.invokestatic 88, 3) := dk_184 0 88 (dk_at dksX1_fault_0 1 rfl rfl)
theorem dX1_fault_4 : decode cX1_fault 4 = .ok (.ifCond .ne 5, 3) := dk_154 0 5 (dk_at dksX1_fault_0 4 rfl rfl)
theorem dX1_fault_7 : decode cX1_fault 7 = .ok (.iconst (-1), 1) := dk_2 (dk_at dksX1_fault_0 7 rfl rfl)
theorem dX1_fault_8 : decode cX1_fault 8 = .ok (.ireturn, 1) := dk_172 (dk_at dksX1_fault_0 8 rfl rfl)
theorem dX1_fault_9 : decode cX1_fault 9 = .ok (.aload_n 0, 1) := dk_42 (dk_at dksX1_fault_0 9 rfl rfl)
theorem dX1_fault_10 : decode cX1_fault 10 = .ok (.getfield 22, 3) := dk_180 0 22 (dk_at dksX1_fault_0 10 rfl rfl)
theorem dX1_fault_13 : decode cX1_fault 13 = .ok (.iload_n 1, 1) := dk_27 (dk_at dksX1_fault_0 13 rfl rfl)
theorem dX1_fault_14 : decode cX1_fault 14 = .ok (.iaload, 1) := dk_46 (dk_at dksX1_fault_0 14 rfl rfl)
theorem dX1_fault_15 : decode cX1_fault 15 = .ok (.ifCond .ge 11, 3) := dk_156 0 11 (dk_at dksX1_fault_0 15 rfl rfl)
theorem dX1_fault_18 : decode cX1_fault 18 = .ok (.aload_n 0, 1) := dk_42 (dk_at dksX1_fault_0 18 rfl rfl)
theorem dX1_fault_19 : decode cX1_fault 19 = .ok (.iconst 1, 1) := dk_4 (dk_at dksX1_fault_0 19 rfl rfl)
theorem dX1_fault_20 : decode cX1_fault 20 = .ok (.invokevirtual 69, 3) := dk_182 0 69 (dk_at dksX1_fault_0 20 rfl rfl)
theorem dX1_fault_23 : decode cX1_fault 23 = .ok (.goto 8, 3) := dk_167 0 8 (dk_at dksX1_fault_1 0 rfl rfl)
theorem dX1_fault_26 : decode cX1_fault 26 = .ok (.aload_n 0, 1) := dk_42 (dk_at dksX1_fault_1 3 rfl rfl)
theorem dX1_fault_27 : decode cX1_fault 27 = .ok (.iload_n 1, 1) := dk_27 (dk_at dksX1_fault_1 4 rfl rfl)
theorem dX1_fault_28 : decode cX1_fault 28 = .ok (.invokevirtual 133, 3) := dk_182 0 133 (dk_at dksX1_fault_1 5 rfl rfl)
theorem dX1_fault_31 : decode cX1_fault 31 = .ok (.ireturn, 1) := dk_172 (dk_at dksX1_fault_1 8 rfl rfl)
abbrev cX1_faultOf : ByteArray := prog_10_method_26_code
def yX1_faultOf : MethodName := ⟨RX1, "faultOf", "(I)I"⟩
def dkwX1_faultOf_3 : List UInt8 := [167, 255, 228, 28, 153, 0, 15, 42, 180, 0, 117, 158, 0, 8, 16, 247, 167, 0, 7, 42, 180, 0, 94, 172]
abbrev dktX1_faultOf_3 : List UInt8 := dkwX1_faultOf_3 ++ []
def dkwX1_faultOf_2 : List UInt8 := [180, 0, 94, 42, 180, 0, 97, 162, 0, 19, 42, 182, 0, 130, 61, 28, 153, 255, 235, 42, 182, 0, 111]
abbrev dktX1_faultOf_2 : List UInt8 := dkwX1_faultOf_2 ++ dktX1_faultOf_3
def dkwX1_faultOf_1 : List UInt8 := [3, 181, 0, 117, 42, 182, 0, 126, 61, 28, 153, 0, 7, 42, 182, 0, 111, 28, 153, 0, 30, 42]
abbrev dktX1_faultOf_1 : List UInt8 := dkwX1_faultOf_1 ++ dktX1_faultOf_2
def dkwX1_faultOf_0 : List UInt8 := [42, 16, 60, 27, 104, 181, 0, 91, 42, 3, 181, 0, 94, 42, 42, 180, 0, 22, 27, 46, 181, 0, 97, 42]
abbrev dktX1_faultOf_0 : List UInt8 := dkwX1_faultOf_0 ++ dktX1_faultOf_1
theorem dksX1_faultOf_0 : cX1_faultOf.data.toList.drop 0 = dktX1_faultOf_0 := by decide +kernel
theorem dksX1_faultOf_1 : cX1_faultOf.data.toList.drop 24 = dktX1_faultOf_1 := dk_seg dksX1_faultOf_0 24 rfl rfl
theorem dksX1_faultOf_2 : cX1_faultOf.data.toList.drop 46 = dktX1_faultOf_2 := dk_seg dksX1_faultOf_1 22 rfl rfl
theorem dksX1_faultOf_3 : cX1_faultOf.data.toList.drop 69 = dktX1_faultOf_3 := dk_seg dksX1_faultOf_2 23 rfl rfl
theorem dX1_faultOf_0 : decode cX1_faultOf 0 = .ok (.aload_n 0, 1) := dk_42 (dk_at dksX1_faultOf_0 0 rfl rfl)
theorem dX1_faultOf_1 : decode cX1_faultOf 1 = .ok (.bipush 60, 2) := dk_16 60 (dk_at dksX1_faultOf_0 1 rfl rfl)
theorem dX1_faultOf_3 : decode cX1_faultOf 3 = .ok (.iload_n 1, 1) := dk_27 (dk_at dksX1_faultOf_0 3 rfl rfl)
theorem dX1_faultOf_4 : decode cX1_faultOf 4 = .ok (.imul, 1) := dk_104 (dk_at dksX1_faultOf_0 4 rfl rfl)
theorem dX1_faultOf_5 : decode cX1_faultOf 5 = .ok (.putfield 91, 3) := dk_181 0 91 (dk_at dksX1_faultOf_0 5 rfl rfl)
theorem dX1_faultOf_8 : decode cX1_faultOf 8 = .ok (.aload_n 0, 1) := dk_42 (dk_at dksX1_faultOf_0 8 rfl rfl)
theorem dX1_faultOf_9 : decode cX1_faultOf 9 = .ok (.iconst 0, 1) := dk_3 (dk_at dksX1_faultOf_0 9 rfl rfl)
theorem dX1_faultOf_10 : decode cX1_faultOf 10 = .ok (.putfield 94, 3) := dk_181 0 94 (dk_at dksX1_faultOf_0 10 rfl rfl)
theorem dX1_faultOf_13 : decode cX1_faultOf 13 = .ok (.aload_n 0, 1) := dk_42 (dk_at dksX1_faultOf_0 13 rfl rfl)
theorem dX1_faultOf_14 : decode cX1_faultOf 14 = .ok (.aload_n 0, 1) := dk_42 (dk_at dksX1_faultOf_0 14 rfl rfl)
theorem dX1_faultOf_15 : decode cX1_faultOf 15 = .ok (.getfield 22, 3) := dk_180 0 22 (dk_at dksX1_faultOf_0 15 rfl rfl)
theorem dX1_faultOf_18 : decode cX1_faultOf 18 = .ok (.iload_n 1, 1) := dk_27 (dk_at dksX1_faultOf_0 18 rfl rfl)
theorem dX1_faultOf_19 : decode cX1_faultOf 19 = .ok (.iaload, 1) := dk_46 (dk_at dksX1_faultOf_0 19 rfl rfl)
theorem dX1_faultOf_20 : decode cX1_faultOf 20 = .ok (.putfield 97, 3) := dk_181 0 97 (dk_at dksX1_faultOf_0 20 rfl rfl)
theorem dX1_faultOf_23 : decode cX1_faultOf 23 = .ok (.aload_n 0, 1) := dk_42 (dk_at dksX1_faultOf_0 23 rfl rfl)
theorem dX1_faultOf_24 : decode cX1_faultOf 24 = .ok (.iconst 0, 1) := dk_3 (dk_at dksX1_faultOf_1 0 rfl rfl)
theorem dX1_faultOf_25 : decode cX1_faultOf 25 = .ok (.putfield 117, 3) := dk_181 0 117 (dk_at dksX1_faultOf_1 1 rfl rfl)
theorem dX1_faultOf_28 : decode cX1_faultOf 28 = .ok (.aload_n 0, 1) := dk_42 (dk_at dksX1_faultOf_1 4 rfl rfl)
theorem dX1_faultOf_29 : decode cX1_faultOf 29 = .ok (.invokevirtual 126, 3) := dk_182 0 126 (dk_at dksX1_faultOf_1 5 rfl rfl)
theorem dX1_faultOf_32 : decode cX1_faultOf 32 = .ok (.istore_n 2, 1) := dk_61 (dk_at dksX1_faultOf_1 8 rfl rfl)
theorem dX1_faultOf_33 : decode cX1_faultOf 33 = .ok (.iload_n 2, 1) := dk_28 (dk_at dksX1_faultOf_1 9 rfl rfl)
theorem dX1_faultOf_34 : decode cX1_faultOf 34 = .ok (.ifCond .eq 7, 3) := dk_153 0 7 (dk_at dksX1_faultOf_1 10 rfl rfl)
theorem dX1_faultOf_37 : decode cX1_faultOf 37 = .ok (.aload_n 0, 1) := dk_42 (dk_at dksX1_faultOf_1 13 rfl rfl)
theorem dX1_faultOf_38 : decode cX1_faultOf 38 = .ok (.invokevirtual 111, 3) := dk_182 0 111 (dk_at dksX1_faultOf_1 14 rfl rfl)
theorem dX1_faultOf_41 : decode cX1_faultOf 41 = .ok (.iload_n 2, 1) := dk_28 (dk_at dksX1_faultOf_1 17 rfl rfl)
theorem dX1_faultOf_42 : decode cX1_faultOf 42 = .ok (.ifCond .eq 30, 3) := dk_153 0 30 (dk_at dksX1_faultOf_1 18 rfl rfl)
theorem dX1_faultOf_45 : decode cX1_faultOf 45 = .ok (.aload_n 0, 1) := dk_42 (dk_at dksX1_faultOf_1 21 rfl rfl)
theorem dX1_faultOf_46 : decode cX1_faultOf 46 = .ok (.getfield 94, 3) := dk_180 0 94 (dk_at dksX1_faultOf_2 0 rfl rfl)
theorem dX1_faultOf_49 : decode cX1_faultOf 49 = .ok (.aload_n 0, 1) := dk_42 (dk_at dksX1_faultOf_2 3 rfl rfl)
theorem dX1_faultOf_50 : decode cX1_faultOf 50 = .ok (.getfield 97, 3) := dk_180 0 97 (dk_at dksX1_faultOf_2 4 rfl rfl)
theorem dX1_faultOf_53 : decode cX1_faultOf 53 = .ok (.if_icmp .ge 19, 3) := dk_162 0 19 (dk_at dksX1_faultOf_2 7 rfl rfl)
theorem dX1_faultOf_56 : decode cX1_faultOf 56 = .ok (.aload_n 0, 1) := dk_42 (dk_at dksX1_faultOf_2 10 rfl rfl)
theorem dX1_faultOf_57 : decode cX1_faultOf 57 = .ok (.invokevirtual 130, 3) := dk_182 0 130 (dk_at dksX1_faultOf_2 11 rfl rfl)
theorem dX1_faultOf_60 : decode cX1_faultOf 60 = .ok (.istore_n 2, 1) := dk_61 (dk_at dksX1_faultOf_2 14 rfl rfl)
theorem dX1_faultOf_61 : decode cX1_faultOf 61 = .ok (.iload_n 2, 1) := dk_28 (dk_at dksX1_faultOf_2 15 rfl rfl)
theorem dX1_faultOf_62 : decode cX1_faultOf 62 = .ok (.ifCond .eq (-21), 3) := dk_153 255 235 (dk_at dksX1_faultOf_2 16 rfl rfl)
theorem dX1_faultOf_65 : decode cX1_faultOf 65 = .ok (.aload_n 0, 1) := dk_42 (dk_at dksX1_faultOf_2 19 rfl rfl)
theorem dX1_faultOf_66 : decode cX1_faultOf 66 = .ok (.invokevirtual 111, 3) := dk_182 0 111 (dk_at dksX1_faultOf_2 20 rfl rfl)
theorem dX1_faultOf_69 : decode cX1_faultOf 69 = .ok (.goto (-28), 3) := dk_167 255 228 (dk_at dksX1_faultOf_3 0 rfl rfl)
theorem dX1_faultOf_72 : decode cX1_faultOf 72 = .ok (.iload_n 2, 1) := dk_28 (dk_at dksX1_faultOf_3 3 rfl rfl)
theorem dX1_faultOf_73 : decode cX1_faultOf 73 = .ok (.ifCond .eq 15, 3) := dk_153 0 15 (dk_at dksX1_faultOf_3 4 rfl rfl)
theorem dX1_faultOf_76 : decode cX1_faultOf 76 = .ok (.aload_n 0, 1) := dk_42 (dk_at dksX1_faultOf_3 7 rfl rfl)
theorem dX1_faultOf_77 : decode cX1_faultOf 77 = .ok (.getfield 117, 3) := dk_180 0 117 (dk_at dksX1_faultOf_3 8 rfl rfl)
theorem dX1_faultOf_80 : decode cX1_faultOf 80 = .ok (.ifCond .le 8, 3) := dk_158 0 8 (dk_at dksX1_faultOf_3 11 rfl rfl)
theorem dX1_faultOf_83 : decode cX1_faultOf 83 = .ok (.bipush (-9), 2) := dk_16 247 (dk_at dksX1_faultOf_3 14 rfl rfl)
theorem dX1_faultOf_85 : decode cX1_faultOf 85 = .ok (.goto 7, 3) := dk_167 0 7 (dk_at dksX1_faultOf_3 16 rfl rfl)
theorem dX1_faultOf_88 : decode cX1_faultOf 88 = .ok (.aload_n 0, 1) := dk_42 (dk_at dksX1_faultOf_3 19 rfl rfl)
theorem dX1_faultOf_89 : decode cX1_faultOf 89 = .ok (.getfield 94, 3) := dk_180 0 94 (dk_at dksX1_faultOf_3 20 rfl rfl)
theorem dX1_faultOf_92 : decode cX1_faultOf 92 = .ok (.ireturn, 1) := dk_172 (dk_at dksX1_faultOf_3 23 rfl rfl)
abbrev cX1_readsFord : ByteArray := prog_10_method_23_code
def yX1_readsFord : MethodName := ⟨RX1, "readsFord", "()Z"⟩
def dkwX1_readsFord_2 : List UInt8 := [16, 247, 159, 0, 7, 4, 167, 0, 4, 3, 172]
abbrev dktX1_readsFord_2 : List UInt8 := dkwX1_readsFord_2 ++ []
def dkwX1_readsFord_1 : List UInt8 := [3, 172, 42, 89, 180, 0, 94, 4, 96, 181, 0, 94, 42, 42, 182, 0, 108, 181, 0, 114, 42, 180, 0, 114]
abbrev dktX1_readsFord_1 : List UInt8 := dkwX1_readsFord_1 ++ dktX1_readsFord_2
def dkwX1_readsFord_0 : List UInt8 := [42, 182, 0, 111, 42, 180, 0, 94, 42, 180, 0, 97, 159, 0, 12, 42, 182, 0, 100, 16, 102, 159, 0, 5]
abbrev dktX1_readsFord_0 : List UInt8 := dkwX1_readsFord_0 ++ dktX1_readsFord_1
theorem dksX1_readsFord_0 : cX1_readsFord.data.toList.drop 0 = dktX1_readsFord_0 := by decide +kernel
theorem dksX1_readsFord_1 : cX1_readsFord.data.toList.drop 24 = dktX1_readsFord_1 := dk_seg dksX1_readsFord_0 24 rfl rfl
theorem dksX1_readsFord_2 : cX1_readsFord.data.toList.drop 48 = dktX1_readsFord_2 := dk_seg dksX1_readsFord_1 24 rfl rfl
theorem dX1_readsFord_0 : decode cX1_readsFord 0 = .ok (.aload_n 0, 1) := dk_42 (dk_at dksX1_readsFord_0 0 rfl rfl)
theorem dX1_readsFord_1 : decode cX1_readsFord 1 = .ok (.invokevirtual 111, 3) := dk_182 0 111 (dk_at dksX1_readsFord_0 1 rfl rfl)
theorem dX1_readsFord_4 : decode cX1_readsFord 4 = .ok (.aload_n 0, 1) := dk_42 (dk_at dksX1_readsFord_0 4 rfl rfl)
theorem dX1_readsFord_5 : decode cX1_readsFord 5 = .ok (.getfield 94, 3) := dk_180 0 94 (dk_at dksX1_readsFord_0 5 rfl rfl)
theorem dX1_readsFord_8 : decode cX1_readsFord 8 = .ok (.aload_n 0, 1) := dk_42 (dk_at dksX1_readsFord_0 8 rfl rfl)
theorem dX1_readsFord_9 : decode cX1_readsFord 9 = .ok (.getfield 97, 3) := dk_180 0 97 (dk_at dksX1_readsFord_0 9 rfl rfl)
theorem dX1_readsFord_12 : decode cX1_readsFord 12 = .ok (.if_icmp .eq 12, 3) := dk_159 0 12 (dk_at dksX1_readsFord_0 12 rfl rfl)
theorem dX1_readsFord_15 : decode cX1_readsFord 15 = .ok (.aload_n 0, 1) := dk_42 (dk_at dksX1_readsFord_0 15 rfl rfl)
theorem dX1_readsFord_16 : decode cX1_readsFord 16 = .ok (.invokevirtual 100, 3) := dk_182 0 100 (dk_at dksX1_readsFord_0 16 rfl rfl)
theorem dX1_readsFord_19 : decode cX1_readsFord 19 = .ok (.bipush 102, 2) := dk_16 102 (dk_at dksX1_readsFord_0 19 rfl rfl)
theorem dX1_readsFord_21 : decode cX1_readsFord 21 = .ok (.if_icmp .eq 5, 3) := dk_159 0 5 (dk_at dksX1_readsFord_0 21 rfl rfl)
theorem dX1_readsFord_24 : decode cX1_readsFord 24 = .ok (.iconst 0, 1) := dk_3 (dk_at dksX1_readsFord_1 0 rfl rfl)
theorem dX1_readsFord_25 : decode cX1_readsFord 25 = .ok (.ireturn, 1) := dk_172 (dk_at dksX1_readsFord_1 1 rfl rfl)
theorem dX1_readsFord_26 : decode cX1_readsFord 26 = .ok (.aload_n 0, 1) := dk_42 (dk_at dksX1_readsFord_1 2 rfl rfl)
theorem dX1_readsFord_27 : decode cX1_readsFord 27 = .ok (.dup, 1) := dk_89 (dk_at dksX1_readsFord_1 3 rfl rfl)
theorem dX1_readsFord_28 : decode cX1_readsFord 28 = .ok (.getfield 94, 3) := dk_180 0 94 (dk_at dksX1_readsFord_1 4 rfl rfl)
theorem dX1_readsFord_31 : decode cX1_readsFord 31 = .ok (.iconst 1, 1) := dk_4 (dk_at dksX1_readsFord_1 7 rfl rfl)
theorem dX1_readsFord_32 : decode cX1_readsFord 32 = .ok (.iadd, 1) := dk_96 (dk_at dksX1_readsFord_1 8 rfl rfl)
theorem dX1_readsFord_33 : decode cX1_readsFord 33 = .ok (.putfield 94, 3) := dk_181 0 94 (dk_at dksX1_readsFord_1 9 rfl rfl)
theorem dX1_readsFord_36 : decode cX1_readsFord 36 = .ok (.aload_n 0, 1) := dk_42 (dk_at dksX1_readsFord_1 12 rfl rfl)
theorem dX1_readsFord_37 : decode cX1_readsFord 37 = .ok (.aload_n 0, 1) := dk_42 (dk_at dksX1_readsFord_1 13 rfl rfl)
theorem dX1_readsFord_38 : decode cX1_readsFord 38 = .ok (.invokevirtual 108, 3) := dk_182 0 108 (dk_at dksX1_readsFord_1 14 rfl rfl)
theorem dX1_readsFord_41 : decode cX1_readsFord 41 = .ok (.putfield 114, 3) := dk_181 0 114 (dk_at dksX1_readsFord_1 17 rfl rfl)
theorem dX1_readsFord_44 : decode cX1_readsFord 44 = .ok (.aload_n 0, 1) := dk_42 (dk_at dksX1_readsFord_1 20 rfl rfl)
theorem dX1_readsFord_45 : decode cX1_readsFord 45 = .ok (.getfield 114, 3) := dk_180 0 114 (dk_at dksX1_readsFord_1 21 rfl rfl)
theorem dX1_readsFord_48 : decode cX1_readsFord 48 = .ok (.bipush (-9), 2) := dk_16 247 (dk_at dksX1_readsFord_2 0 rfl rfl)
theorem dX1_readsFord_50 : decode cX1_readsFord 50 = .ok (.if_icmp .eq 7, 3) := dk_159 0 7 (dk_at dksX1_readsFord_2 2 rfl rfl)
theorem dX1_readsFord_53 : decode cX1_readsFord 53 = .ok (.iconst 1, 1) := dk_4 (dk_at dksX1_readsFord_2 5 rfl rfl)
theorem dX1_readsFord_54 : decode cX1_readsFord 54 = .ok (.goto 4, 3) := dk_167 0 4 (dk_at dksX1_readsFord_2 6 rfl rfl)
theorem dX1_readsFord_57 : decode cX1_readsFord 57 = .ok (.iconst 0, 1) := dk_3 (dk_at dksX1_readsFord_2 9 rfl rfl)
theorem dX1_readsFord_58 : decode cX1_readsFord 58 = .ok (.ireturn, 1) := dk_172 (dk_at dksX1_readsFord_2 10 rfl rfl)
abbrev cX1_skip : ByteArray := prog_10_method_20_code
def yX1_skip : MethodName := ⟨RX1, "skip", "()V"⟩
def dkwX1_skip_1 : List UInt8 := [180, 0, 94, 4, 96, 181, 0, 94, 167, 255, 226, 177]
abbrev dktX1_skip_1 : List UInt8 := dkwX1_skip_1 ++ []
def dkwX1_skip_0 : List UInt8 := [42, 180, 0, 94, 42, 180, 0, 97, 162, 0, 25, 42, 182, 0, 100, 16, 32, 160, 0, 16, 42, 89]
abbrev dktX1_skip_0 : List UInt8 := dkwX1_skip_0 ++ dktX1_skip_1
theorem dksX1_skip_0 : cX1_skip.data.toList.drop 0 = dktX1_skip_0 := by decide +kernel
theorem dksX1_skip_1 : cX1_skip.data.toList.drop 22 = dktX1_skip_1 := dk_seg dksX1_skip_0 22 rfl rfl
theorem dX1_skip_0 : decode cX1_skip 0 = .ok (.aload_n 0, 1) := dk_42 (dk_at dksX1_skip_0 0 rfl rfl)
theorem dX1_skip_1 : decode cX1_skip 1 = .ok (.getfield 94, 3) := dk_180 0 94 (dk_at dksX1_skip_0 1 rfl rfl)
theorem dX1_skip_4 : decode cX1_skip 4 = .ok (.aload_n 0, 1) := dk_42 (dk_at dksX1_skip_0 4 rfl rfl)
theorem dX1_skip_5 : decode cX1_skip 5 = .ok (.getfield 97, 3) := dk_180 0 97 (dk_at dksX1_skip_0 5 rfl rfl)
theorem dX1_skip_8 : decode cX1_skip 8 = .ok (.if_icmp .ge 25, 3) := dk_162 0 25 (dk_at dksX1_skip_0 8 rfl rfl)
theorem dX1_skip_11 : decode cX1_skip 11 = .ok (.aload_n 0, 1) := dk_42 (dk_at dksX1_skip_0 11 rfl rfl)
theorem dX1_skip_12 : decode cX1_skip 12 = .ok (.invokevirtual 100, 3) := dk_182 0 100 (dk_at dksX1_skip_0 12 rfl rfl)
theorem dX1_skip_15 : decode cX1_skip 15 = .ok (.bipush 32, 2) := dk_16 32 (dk_at dksX1_skip_0 15 rfl rfl)
theorem dX1_skip_17 : decode cX1_skip 17 = .ok (.if_icmp .ne 16, 3) := dk_160 0 16 (dk_at dksX1_skip_0 17 rfl rfl)
theorem dX1_skip_20 : decode cX1_skip 20 = .ok (.aload_n 0, 1) := dk_42 (dk_at dksX1_skip_0 20 rfl rfl)
theorem dX1_skip_21 : decode cX1_skip 21 = .ok (.dup, 1) := dk_89 (dk_at dksX1_skip_0 21 rfl rfl)
theorem dX1_skip_22 : decode cX1_skip 22 = .ok (.getfield 94, 3) := dk_180 0 94 (dk_at dksX1_skip_1 0 rfl rfl)
theorem dX1_skip_25 : decode cX1_skip 25 = .ok (.iconst 1, 1) := dk_4 (dk_at dksX1_skip_1 3 rfl rfl)
theorem dX1_skip_26 : decode cX1_skip 26 = .ok (.iadd, 1) := dk_96 (dk_at dksX1_skip_1 4 rfl rfl)
theorem dX1_skip_27 : decode cX1_skip 27 = .ok (.putfield 94, 3) := dk_181 0 94 (dk_at dksX1_skip_1 5 rfl rfl)
theorem dX1_skip_30 : decode cX1_skip 30 = .ok (.goto (-30), 3) := dk_167 255 226 (dk_at dksX1_skip_1 8 rfl rfl)
theorem dX1_skip_33 : decode cX1_skip 33 = .ok (.return_, 1) := dk_177 (dk_at dksX1_skip_1 11 rfl rfl)
abbrev cX1_here : ByteArray := prog_10_method_19_code
def yX1_here : MethodName := ⟨RX1, "here", "()I"⟩
def dkwX1_here_0 : List UInt8 := [42, 180, 0, 25, 42, 180, 0, 91, 42, 180, 0, 94, 96, 46, 172]
abbrev dktX1_here_0 : List UInt8 := dkwX1_here_0 ++ []
theorem dksX1_here_0 : cX1_here.data.toList.drop 0 = dktX1_here_0 := by decide +kernel
theorem dX1_here_0 : decode cX1_here 0 = .ok (.aload_n 0, 1) := dk_42 (dk_at dksX1_here_0 0 rfl rfl)
theorem dX1_here_1 : decode cX1_here 1 = .ok (.getfield 25, 3) := dk_180 0 25 (dk_at dksX1_here_0 1 rfl rfl)
theorem dX1_here_4 : decode cX1_here 4 = .ok (.aload_n 0, 1) := dk_42 (dk_at dksX1_here_0 4 rfl rfl)
theorem dX1_here_5 : decode cX1_here 5 = .ok (.getfield 91, 3) := dk_180 0 91 (dk_at dksX1_here_0 5 rfl rfl)
theorem dX1_here_8 : decode cX1_here 8 = .ok (.aload_n 0, 1) := dk_42 (dk_at dksX1_here_0 8 rfl rfl)
theorem dX1_here_9 : decode cX1_here 9 = .ok (.getfield 94, 3) := dk_180 0 94 (dk_at dksX1_here_0 9 rfl rfl)
theorem dX1_here_12 : decode cX1_here 12 = .ok (.iadd, 1) := dk_96 (dk_at dksX1_here_0 12 rfl rfl)
theorem dX1_here_13 : decode cX1_here 13 = .ok (.iaload, 1) := dk_46 (dk_at dksX1_here_0 13 rfl rfl)
theorem dX1_here_14 : decode cX1_here 14 = .ok (.ireturn, 1) := dk_172 (dk_at dksX1_here_0 14 rfl rfl)
abbrev cX1_figure : ByteArray := prog_10_method_21_code
def yX1_figure : MethodName := ⟨RX1, "figure", "()I"⟩
def dkwX1_figure_2 : List UInt8 := [180, 0, 91, 42, 180, 0, 94, 96, 4, 100, 46, 16, 48, 100, 172]
abbrev dktX1_figure_2 : List UInt8 := dkwX1_figure_2 ++ []
def dkwX1_figure_1 : List UInt8 := [184, 0, 59, 154, 0, 6, 16, 247, 172, 42, 89, 180, 0, 94, 4, 96, 181, 0, 94, 42, 180, 0, 25, 42]
abbrev dktX1_figure_1 : List UInt8 := dkwX1_figure_1 ++ dktX1_figure_2
def dkwX1_figure_0 : List UInt8 := [42, 180, 0, 94, 42, 180, 0, 97, 159, 0, 20, 42, 182, 0, 100, 133, 20, 0, 104, 20, 0, 106]
abbrev dktX1_figure_0 : List UInt8 := dkwX1_figure_0 ++ dktX1_figure_1
theorem dksX1_figure_0 : cX1_figure.data.toList.drop 0 = dktX1_figure_0 := by decide +kernel
theorem dksX1_figure_1 : cX1_figure.data.toList.drop 22 = dktX1_figure_1 := dk_seg dksX1_figure_0 22 rfl rfl
theorem dksX1_figure_2 : cX1_figure.data.toList.drop 46 = dktX1_figure_2 := dk_seg dksX1_figure_1 24 rfl rfl
theorem dX1_figure_0 : decode cX1_figure 0 = .ok (.aload_n 0, 1) := dk_42 (dk_at dksX1_figure_0 0 rfl rfl)
theorem dX1_figure_1 : decode cX1_figure 1 = .ok (.getfield 94, 3) := dk_180 0 94 (dk_at dksX1_figure_0 1 rfl rfl)
theorem dX1_figure_4 : decode cX1_figure 4 = .ok (.aload_n 0, 1) := dk_42 (dk_at dksX1_figure_0 4 rfl rfl)
theorem dX1_figure_5 : decode cX1_figure 5 = .ok (.getfield 97, 3) := dk_180 0 97 (dk_at dksX1_figure_0 5 rfl rfl)
theorem dX1_figure_8 : decode cX1_figure 8 = .ok (.if_icmp .eq 20, 3) := dk_159 0 20 (dk_at dksX1_figure_0 8 rfl rfl)
theorem dX1_figure_11 : decode cX1_figure 11 = .ok (.aload_n 0, 1) := dk_42 (dk_at dksX1_figure_0 11 rfl rfl)
theorem dX1_figure_12 : decode cX1_figure 12 = .ok (.invokevirtual 100, 3) := dk_182 0 100 (dk_at dksX1_figure_0 12 rfl rfl)
theorem dX1_figure_15 : decode cX1_figure 15 = .ok (.i2l, 1) := dk_133 (dk_at dksX1_figure_0 15 rfl rfl)
theorem dX1_figure_16 : decode cX1_figure 16 = .ok (.ldc2_w 104, 3) := dk_20 0 104 (dk_at dksX1_figure_0 16 rfl rfl)
theorem dX1_figure_19 : decode cX1_figure 19 = .ok (.ldc2_w 106, 3) := dk_20 0 106 (dk_at dksX1_figure_0 19 rfl rfl)
theorem dX1_figure_22 : decode cX1_figure 22 = .ok (.invokestatic 59, 3) := dk_184 0 59 (dk_at dksX1_figure_1 0 rfl rfl)
theorem dX1_figure_25 : decode cX1_figure 25 = .ok (.ifCond .ne 6, 3) := dk_154 0 6 (dk_at dksX1_figure_1 3 rfl rfl)
theorem dX1_figure_28 : decode cX1_figure 28 = .ok (.bipush (-9), 2) := dk_16 247 (dk_at dksX1_figure_1 6 rfl rfl)
theorem dX1_figure_30 : decode cX1_figure 30 = .ok (.ireturn, 1) := dk_172 (dk_at dksX1_figure_1 8 rfl rfl)
theorem dX1_figure_31 : decode cX1_figure 31 = .ok (.aload_n 0, 1) := dk_42 (dk_at dksX1_figure_1 9 rfl rfl)
theorem dX1_figure_32 : decode cX1_figure 32 = .ok (.dup, 1) := dk_89 (dk_at dksX1_figure_1 10 rfl rfl)
theorem dX1_figure_33 : decode cX1_figure 33 = .ok (.getfield 94, 3) := dk_180 0 94 (dk_at dksX1_figure_1 11 rfl rfl)
theorem dX1_figure_36 : decode cX1_figure 36 = .ok (.iconst 1, 1) := dk_4 (dk_at dksX1_figure_1 14 rfl rfl)
theorem dX1_figure_37 : decode cX1_figure 37 = .ok (.iadd, 1) := dk_96 (dk_at dksX1_figure_1 15 rfl rfl)
theorem dX1_figure_38 : decode cX1_figure 38 = .ok (.putfield 94, 3) := dk_181 0 94 (dk_at dksX1_figure_1 16 rfl rfl)
theorem dX1_figure_41 : decode cX1_figure 41 = .ok (.aload_n 0, 1) := dk_42 (dk_at dksX1_figure_1 19 rfl rfl)
theorem dX1_figure_42 : decode cX1_figure 42 = .ok (.getfield 25, 3) := dk_180 0 25 (dk_at dksX1_figure_1 20 rfl rfl)
theorem dX1_figure_45 : decode cX1_figure 45 = .ok (.aload_n 0, 1) := dk_42 (dk_at dksX1_figure_1 23 rfl rfl)
theorem dX1_figure_46 : decode cX1_figure 46 = .ok (.getfield 91, 3) := dk_180 0 91 (dk_at dksX1_figure_2 0 rfl rfl)
theorem dX1_figure_49 : decode cX1_figure 49 = .ok (.aload_n 0, 1) := dk_42 (dk_at dksX1_figure_2 3 rfl rfl)
theorem dX1_figure_50 : decode cX1_figure 50 = .ok (.getfield 94, 3) := dk_180 0 94 (dk_at dksX1_figure_2 4 rfl rfl)
theorem dX1_figure_53 : decode cX1_figure 53 = .ok (.iadd, 1) := dk_96 (dk_at dksX1_figure_2 7 rfl rfl)
theorem dX1_figure_54 : decode cX1_figure 54 = .ok (.iconst 1, 1) := dk_4 (dk_at dksX1_figure_2 8 rfl rfl)
theorem dX1_figure_55 : decode cX1_figure 55 = .ok (.isub, 1) := dk_100 (dk_at dksX1_figure_2 9 rfl rfl)
theorem dX1_figure_56 : decode cX1_figure 56 = .ok (.iaload, 1) := dk_46 (dk_at dksX1_figure_2 10 rfl rfl)
theorem dX1_figure_57 : decode cX1_figure 57 = .ok (.bipush 48, 2) := dk_16 48 (dk_at dksX1_figure_2 11 rfl rfl)
theorem dX1_figure_59 : decode cX1_figure 59 = .ok (.isub, 1) := dk_100 (dk_at dksX1_figure_2 13 rfl rfl)
theorem dX1_figure_60 : decode cX1_figure 60 = .ok (.ireturn, 1) := dk_172 (dk_at dksX1_figure_2 14 rfl rfl)
abbrev cX1_readsOne : ByteArray := prog_10_method_25_code
def yX1_readsOne : MethodName := ⟨RX1, "readsOne", "()Z"⟩
def dkwX1_readsOne_4 : List UInt8 := [180, 0, 35, 27, 5, 96, 21, 4, 79, 42, 89, 180, 0, 117, 4, 96, 181, 0, 117, 4, 172]
abbrev dktX1_readsOne_4 : List UInt8 := dkwX1_readsOne_4 ++ []
def dkwX1_readsOne_3 : List UInt8 := [160, 0, 5, 3, 172, 42, 180, 0, 35, 27, 28, 79, 42, 180, 0, 35, 27, 4, 96, 29, 79, 42]
abbrev dktX1_readsOne_3 : List UInt8 := dkwX1_readsOne_3 ++ dktX1_readsOne_4
def dkwX1_readsOne_2 : List UInt8 := [62, 29, 16, 247, 160, 0, 8, 16, 247, 167, 0, 9, 42, 16, 20, 182, 0, 123, 54, 4, 21, 4, 16, 247]
abbrev dktX1_readsOne_2 : List UInt8 := dkwX1_readsOne_2 ++ dktX1_readsOne_3
def dkwX1_readsOne_1 : List UInt8 := [180, 0, 117, 16, 6, 160, 0, 5, 3, 172, 42, 89, 180, 0, 94, 4, 96, 181, 0, 94, 42, 182, 0, 108]
abbrev dktX1_readsOne_1 : List UInt8 := dkwX1_readsOne_1 ++ dktX1_readsOne_2
def dkwX1_readsOne_0 : List UInt8 := [6, 42, 180, 0, 117, 104, 60, 42, 182, 0, 100, 184, 0, 120, 61, 28, 16, 247, 159, 0, 12, 42]
abbrev dktX1_readsOne_0 : List UInt8 := dkwX1_readsOne_0 ++ dktX1_readsOne_1
theorem dksX1_readsOne_0 : cX1_readsOne.data.toList.drop 0 = dktX1_readsOne_0 := by decide +kernel
theorem dksX1_readsOne_1 : cX1_readsOne.data.toList.drop 22 = dktX1_readsOne_1 := dk_seg dksX1_readsOne_0 22 rfl rfl
theorem dksX1_readsOne_2 : cX1_readsOne.data.toList.drop 46 = dktX1_readsOne_2 := dk_seg dksX1_readsOne_1 24 rfl rfl
theorem dksX1_readsOne_3 : cX1_readsOne.data.toList.drop 70 = dktX1_readsOne_3 := dk_seg dksX1_readsOne_2 24 rfl rfl
theorem dksX1_readsOne_4 : cX1_readsOne.data.toList.drop 92 = dktX1_readsOne_4 := dk_seg dksX1_readsOne_3 22 rfl rfl
theorem dX1_readsOne_0 : decode cX1_readsOne 0 = .ok (.iconst 3, 1) := dk_6 (dk_at dksX1_readsOne_0 0 rfl rfl)
theorem dX1_readsOne_1 : decode cX1_readsOne 1 = .ok (.aload_n 0, 1) := dk_42 (dk_at dksX1_readsOne_0 1 rfl rfl)
theorem dX1_readsOne_2 : decode cX1_readsOne 2 = .ok (.getfield 117, 3) := dk_180 0 117 (dk_at dksX1_readsOne_0 2 rfl rfl)
theorem dX1_readsOne_5 : decode cX1_readsOne 5 = .ok (.imul, 1) := dk_104 (dk_at dksX1_readsOne_0 5 rfl rfl)
theorem dX1_readsOne_6 : decode cX1_readsOne 6 = .ok (.istore_n 1, 1) := dk_60 (dk_at dksX1_readsOne_0 6 rfl rfl)
theorem dX1_readsOne_7 : decode cX1_readsOne 7 = .ok (.aload_n 0, 1) := dk_42 (dk_at dksX1_readsOne_0 7 rfl rfl)
theorem dX1_readsOne_8 : decode cX1_readsOne 8 = .ok (.invokevirtual 100, 3) := dk_182 0 100 (dk_at dksX1_readsOne_0 8 rfl rfl)
theorem dX1_readsOne_11 : decode cX1_readsOne 11 = .ok (.invokestatic 120, 3) := dk_184 0 120 (dk_at dksX1_readsOne_0 11 rfl rfl)
theorem dX1_readsOne_14 : decode cX1_readsOne 14 = .ok (.istore_n 2, 1) := dk_61 (dk_at dksX1_readsOne_0 14 rfl rfl)
theorem dX1_readsOne_15 : decode cX1_readsOne 15 = .ok (.iload_n 2, 1) := dk_28 (dk_at dksX1_readsOne_0 15 rfl rfl)
theorem dX1_readsOne_16 : decode cX1_readsOne 16 = .ok (.bipush (-9), 2) := dk_16 247 (dk_at dksX1_readsOne_0 16 rfl rfl)
theorem dX1_readsOne_18 : decode cX1_readsOne 18 = .ok (.if_icmp .eq 12, 3) := dk_159 0 12 (dk_at dksX1_readsOne_0 18 rfl rfl)
theorem dX1_readsOne_21 : decode cX1_readsOne 21 = .ok (.aload_n 0, 1) := dk_42 (dk_at dksX1_readsOne_0 21 rfl rfl)
theorem dX1_readsOne_22 : decode cX1_readsOne 22 = .ok (.getfield 117, 3) := dk_180 0 117 (dk_at dksX1_readsOne_1 0 rfl rfl)
theorem dX1_readsOne_25 : decode cX1_readsOne 25 = .ok (.bipush 6, 2) := dk_16 6 (dk_at dksX1_readsOne_1 3 rfl rfl)
theorem dX1_readsOne_27 : decode cX1_readsOne 27 = .ok (.if_icmp .ne 5, 3) := dk_160 0 5 (dk_at dksX1_readsOne_1 5 rfl rfl)
theorem dX1_readsOne_30 : decode cX1_readsOne 30 = .ok (.iconst 0, 1) := dk_3 (dk_at dksX1_readsOne_1 8 rfl rfl)
theorem dX1_readsOne_31 : decode cX1_readsOne 31 = .ok (.ireturn, 1) := dk_172 (dk_at dksX1_readsOne_1 9 rfl rfl)
theorem dX1_readsOne_32 : decode cX1_readsOne 32 = .ok (.aload_n 0, 1) := dk_42 (dk_at dksX1_readsOne_1 10 rfl rfl)
theorem dX1_readsOne_33 : decode cX1_readsOne 33 = .ok (.dup, 1) := dk_89 (dk_at dksX1_readsOne_1 11 rfl rfl)
theorem dX1_readsOne_34 : decode cX1_readsOne 34 = .ok (.getfield 94, 3) := dk_180 0 94 (dk_at dksX1_readsOne_1 12 rfl rfl)
theorem dX1_readsOne_37 : decode cX1_readsOne 37 = .ok (.iconst 1, 1) := dk_4 (dk_at dksX1_readsOne_1 15 rfl rfl)
theorem dX1_readsOne_38 : decode cX1_readsOne 38 = .ok (.iadd, 1) := dk_96 (dk_at dksX1_readsOne_1 16 rfl rfl)
theorem dX1_readsOne_39 : decode cX1_readsOne 39 = .ok (.putfield 94, 3) := dk_181 0 94 (dk_at dksX1_readsOne_1 17 rfl rfl)
theorem dX1_readsOne_42 : decode cX1_readsOne 42 = .ok (.aload_n 0, 1) := dk_42 (dk_at dksX1_readsOne_1 20 rfl rfl)
theorem dX1_readsOne_43 : decode cX1_readsOne 43 = .ok (.invokevirtual 108, 3) := dk_182 0 108 (dk_at dksX1_readsOne_1 21 rfl rfl)
theorem dX1_readsOne_46 : decode cX1_readsOne 46 = .ok (.istore_n 3, 1) := dk_62 (dk_at dksX1_readsOne_2 0 rfl rfl)
theorem dX1_readsOne_47 : decode cX1_readsOne 47 = .ok (.iload_n 3, 1) := dk_29 (dk_at dksX1_readsOne_2 1 rfl rfl)
theorem dX1_readsOne_48 : decode cX1_readsOne 48 = .ok (.bipush (-9), 2) := dk_16 247 (dk_at dksX1_readsOne_2 2 rfl rfl)
theorem dX1_readsOne_50 : decode cX1_readsOne 50 = .ok (.if_icmp .ne 8, 3) := dk_160 0 8 (dk_at dksX1_readsOne_2 4 rfl rfl)
theorem dX1_readsOne_53 : decode cX1_readsOne 53 = .ok (.bipush (-9), 2) := dk_16 247 (dk_at dksX1_readsOne_2 7 rfl rfl)
theorem dX1_readsOne_55 : decode cX1_readsOne 55 = .ok (.goto 9, 3) := dk_167 0 9 (dk_at dksX1_readsOne_2 9 rfl rfl)
theorem dX1_readsOne_58 : decode cX1_readsOne 58 = .ok (.aload_n 0, 1) := dk_42 (dk_at dksX1_readsOne_2 12 rfl rfl)
theorem dX1_readsOne_59 : decode cX1_readsOne 59 = .ok (.bipush 20, 2) := dk_16 20 (dk_at dksX1_readsOne_2 13 rfl rfl)
theorem dX1_readsOne_61 : decode cX1_readsOne 61 = .ok (.invokevirtual 123, 3) := dk_182 0 123 (dk_at dksX1_readsOne_2 15 rfl rfl)
theorem dX1_readsOne_64 : decode cX1_readsOne 64 = .ok (.istore 4, 2) := dk_54 4 (dk_at dksX1_readsOne_2 18 rfl rfl)
theorem dX1_readsOne_66 : decode cX1_readsOne 66 = .ok (.iload 4, 2) := dk_21 4 (dk_at dksX1_readsOne_2 20 rfl rfl)
theorem dX1_readsOne_68 : decode cX1_readsOne 68 = .ok (.bipush (-9), 2) := dk_16 247 (dk_at dksX1_readsOne_2 22 rfl rfl)
theorem dX1_readsOne_70 : decode cX1_readsOne 70 = .ok (.if_icmp .ne 5, 3) := dk_160 0 5 (dk_at dksX1_readsOne_3 0 rfl rfl)
theorem dX1_readsOne_73 : decode cX1_readsOne 73 = .ok (.iconst 0, 1) := dk_3 (dk_at dksX1_readsOne_3 3 rfl rfl)
theorem dX1_readsOne_74 : decode cX1_readsOne 74 = .ok (.ireturn, 1) := dk_172 (dk_at dksX1_readsOne_3 4 rfl rfl)
theorem dX1_readsOne_75 : decode cX1_readsOne 75 = .ok (.aload_n 0, 1) := dk_42 (dk_at dksX1_readsOne_3 5 rfl rfl)
theorem dX1_readsOne_76 : decode cX1_readsOne 76 = .ok (.getfield 35, 3) := dk_180 0 35 (dk_at dksX1_readsOne_3 6 rfl rfl)
theorem dX1_readsOne_79 : decode cX1_readsOne 79 = .ok (.iload_n 1, 1) := dk_27 (dk_at dksX1_readsOne_3 9 rfl rfl)
theorem dX1_readsOne_80 : decode cX1_readsOne 80 = .ok (.iload_n 2, 1) := dk_28 (dk_at dksX1_readsOne_3 10 rfl rfl)
theorem dX1_readsOne_81 : decode cX1_readsOne 81 = .ok (.iastore, 1) := dk_79 (dk_at dksX1_readsOne_3 11 rfl rfl)
theorem dX1_readsOne_82 : decode cX1_readsOne 82 = .ok (.aload_n 0, 1) := dk_42 (dk_at dksX1_readsOne_3 12 rfl rfl)
theorem dX1_readsOne_83 : decode cX1_readsOne 83 = .ok (.getfield 35, 3) := dk_180 0 35 (dk_at dksX1_readsOne_3 13 rfl rfl)
theorem dX1_readsOne_86 : decode cX1_readsOne 86 = .ok (.iload_n 1, 1) := dk_27 (dk_at dksX1_readsOne_3 16 rfl rfl)
theorem dX1_readsOne_87 : decode cX1_readsOne 87 = .ok (.iconst 1, 1) := dk_4 (dk_at dksX1_readsOne_3 17 rfl rfl)
theorem dX1_readsOne_88 : decode cX1_readsOne 88 = .ok (.iadd, 1) := dk_96 (dk_at dksX1_readsOne_3 18 rfl rfl)
theorem dX1_readsOne_89 : decode cX1_readsOne 89 = .ok (.iload_n 3, 1) := dk_29 (dk_at dksX1_readsOne_3 19 rfl rfl)
theorem dX1_readsOne_90 : decode cX1_readsOne 90 = .ok (.iastore, 1) := dk_79 (dk_at dksX1_readsOne_3 20 rfl rfl)
theorem dX1_readsOne_91 : decode cX1_readsOne 91 = .ok (.aload_n 0, 1) := dk_42 (dk_at dksX1_readsOne_3 21 rfl rfl)
theorem dX1_readsOne_92 : decode cX1_readsOne 92 = .ok (.getfield 35, 3) := dk_180 0 35 (dk_at dksX1_readsOne_4 0 rfl rfl)
theorem dX1_readsOne_95 : decode cX1_readsOne 95 = .ok (.iload_n 1, 1) := dk_27 (dk_at dksX1_readsOne_4 3 rfl rfl)
theorem dX1_readsOne_96 : decode cX1_readsOne 96 = .ok (.iconst 2, 1) := dk_5 (dk_at dksX1_readsOne_4 4 rfl rfl)
theorem dX1_readsOne_97 : decode cX1_readsOne 97 = .ok (.iadd, 1) := dk_96 (dk_at dksX1_readsOne_4 5 rfl rfl)
theorem dX1_readsOne_98 : decode cX1_readsOne 98 = .ok (.iload 4, 2) := dk_21 4 (dk_at dksX1_readsOne_4 6 rfl rfl)
theorem dX1_readsOne_100 : decode cX1_readsOne 100 = .ok (.iastore, 1) := dk_79 (dk_at dksX1_readsOne_4 8 rfl rfl)
theorem dX1_readsOne_101 : decode cX1_readsOne 101 = .ok (.aload_n 0, 1) := dk_42 (dk_at dksX1_readsOne_4 9 rfl rfl)
theorem dX1_readsOne_102 : decode cX1_readsOne 102 = .ok (.dup, 1) := dk_89 (dk_at dksX1_readsOne_4 10 rfl rfl)
theorem dX1_readsOne_103 : decode cX1_readsOne 103 = .ok (.getfield 117, 3) := dk_180 0 117 (dk_at dksX1_readsOne_4 11 rfl rfl)
theorem dX1_readsOne_106 : decode cX1_readsOne 106 = .ok (.iconst 1, 1) := dk_4 (dk_at dksX1_readsOne_4 14 rfl rfl)
theorem dX1_readsOne_107 : decode cX1_readsOne 107 = .ok (.iadd, 1) := dk_96 (dk_at dksX1_readsOne_4 15 rfl rfl)
theorem dX1_readsOne_108 : decode cX1_readsOne 108 = .ok (.putfield 117, 3) := dk_181 0 117 (dk_at dksX1_readsOne_4 16 rfl rfl)
theorem dX1_readsOne_111 : decode cX1_readsOne 111 = .ok (.iconst 1, 1) := dk_4 (dk_at dksX1_readsOne_4 19 rfl rfl)
theorem dX1_readsOne_112 : decode cX1_readsOne 112 = .ok (.ireturn, 1) := dk_172 (dk_at dksX1_readsOne_4 20 rfl rfl)
abbrev cX1_kindOfLetter : ByteArray := prog_10_method_24_code
def yX1_kindOfLetter : MethodName := ⟨RX1, "kindOfLetter", "(I)I"⟩
def dkwX1_kindOfLetter_2 : List UInt8 := [167, 0, 15, 26, 16, 113, 160, 0, 7, 8, 167, 0, 5, 16, 247, 172]
abbrev dktX1_kindOfLetter_2 : List UInt8 := dkwX1_kindOfLetter_2 ++ []
def dkwX1_kindOfLetter_1 : List UInt8 := [160, 0, 7, 5, 167, 0, 35, 26, 16, 98, 160, 0, 7, 6, 167, 0, 25, 26, 16, 116, 160, 0, 7, 7]
abbrev dktX1_kindOfLetter_1 : List UInt8 := dkwX1_kindOfLetter_1 ++ dktX1_kindOfLetter_2
def dkwX1_kindOfLetter_0 : List UInt8 := [26, 16, 112, 160, 0, 7, 3, 167, 0, 55, 26, 16, 100, 160, 0, 7, 4, 167, 0, 45, 26, 16, 101]
abbrev dktX1_kindOfLetter_0 : List UInt8 := dkwX1_kindOfLetter_0 ++ dktX1_kindOfLetter_1
theorem dksX1_kindOfLetter_0 : cX1_kindOfLetter.data.toList.drop 0 = dktX1_kindOfLetter_0 := by decide +kernel
theorem dksX1_kindOfLetter_1 : cX1_kindOfLetter.data.toList.drop 23 = dktX1_kindOfLetter_1 := dk_seg dksX1_kindOfLetter_0 23 rfl rfl
theorem dksX1_kindOfLetter_2 : cX1_kindOfLetter.data.toList.drop 47 = dktX1_kindOfLetter_2 := dk_seg dksX1_kindOfLetter_1 24 rfl rfl
theorem dX1_kindOfLetter_0 : decode cX1_kindOfLetter 0 = .ok (.iload_n 0, 1) := dk_26 (dk_at dksX1_kindOfLetter_0 0 rfl rfl)
theorem dX1_kindOfLetter_1 : decode cX1_kindOfLetter 1 = .ok (.bipush 112, 2) := dk_16 112 (dk_at dksX1_kindOfLetter_0 1 rfl rfl)
theorem dX1_kindOfLetter_3 : decode cX1_kindOfLetter 3 = .ok (.if_icmp .ne 7, 3) := dk_160 0 7 (dk_at dksX1_kindOfLetter_0 3 rfl rfl)
theorem dX1_kindOfLetter_6 : decode cX1_kindOfLetter 6 = .ok (.iconst 0, 1) := dk_3 (dk_at dksX1_kindOfLetter_0 6 rfl rfl)
theorem dX1_kindOfLetter_7 : decode cX1_kindOfLetter 7 = .ok (.goto 55, 3) := dk_167 0 55 (dk_at dksX1_kindOfLetter_0 7 rfl rfl)
theorem dX1_kindOfLetter_10 : decode cX1_kindOfLetter 10 = .ok (.iload_n 0, 1) := dk_26 (dk_at dksX1_kindOfLetter_0 10 rfl rfl)
theorem dX1_kindOfLetter_11 : decode cX1_kindOfLetter 11 = .ok (.bipush 100, 2) := dk_16 100 (dk_at dksX1_kindOfLetter_0 11 rfl rfl)
theorem dX1_kindOfLetter_13 : decode cX1_kindOfLetter 13 = .ok (.if_icmp .ne 7, 3) := dk_160 0 7 (dk_at dksX1_kindOfLetter_0 13 rfl rfl)
theorem dX1_kindOfLetter_16 : decode cX1_kindOfLetter 16 = .ok (.iconst 1, 1) := dk_4 (dk_at dksX1_kindOfLetter_0 16 rfl rfl)
theorem dX1_kindOfLetter_17 : decode cX1_kindOfLetter 17 = .ok (.goto 45, 3) := dk_167 0 45 (dk_at dksX1_kindOfLetter_0 17 rfl rfl)
theorem dX1_kindOfLetter_20 : decode cX1_kindOfLetter 20 = .ok (.iload_n 0, 1) := dk_26 (dk_at dksX1_kindOfLetter_0 20 rfl rfl)
theorem dX1_kindOfLetter_21 : decode cX1_kindOfLetter 21 = .ok (.bipush 101, 2) := dk_16 101 (dk_at dksX1_kindOfLetter_0 21 rfl rfl)
theorem dX1_kindOfLetter_23 : decode cX1_kindOfLetter 23 = .ok (.if_icmp .ne 7, 3) := dk_160 0 7 (dk_at dksX1_kindOfLetter_1 0 rfl rfl)
theorem dX1_kindOfLetter_26 : decode cX1_kindOfLetter 26 = .ok (.iconst 2, 1) := dk_5 (dk_at dksX1_kindOfLetter_1 3 rfl rfl)
theorem dX1_kindOfLetter_27 : decode cX1_kindOfLetter 27 = .ok (.goto 35, 3) := dk_167 0 35 (dk_at dksX1_kindOfLetter_1 4 rfl rfl)
theorem dX1_kindOfLetter_30 : decode cX1_kindOfLetter 30 = .ok (.iload_n 0, 1) := dk_26 (dk_at dksX1_kindOfLetter_1 7 rfl rfl)
theorem dX1_kindOfLetter_31 : decode cX1_kindOfLetter 31 = .ok (.bipush 98, 2) := dk_16 98 (dk_at dksX1_kindOfLetter_1 8 rfl rfl)
theorem dX1_kindOfLetter_33 : decode cX1_kindOfLetter 33 = .ok (.if_icmp .ne 7, 3) := dk_160 0 7 (dk_at dksX1_kindOfLetter_1 10 rfl rfl)
theorem dX1_kindOfLetter_36 : decode cX1_kindOfLetter 36 = .ok (.iconst 3, 1) := dk_6 (dk_at dksX1_kindOfLetter_1 13 rfl rfl)
theorem dX1_kindOfLetter_37 : decode cX1_kindOfLetter 37 = .ok (.goto 25, 3) := dk_167 0 25 (dk_at dksX1_kindOfLetter_1 14 rfl rfl)
theorem dX1_kindOfLetter_40 : decode cX1_kindOfLetter 40 = .ok (.iload_n 0, 1) := dk_26 (dk_at dksX1_kindOfLetter_1 17 rfl rfl)
theorem dX1_kindOfLetter_41 : decode cX1_kindOfLetter 41 = .ok (.bipush 116, 2) := dk_16 116 (dk_at dksX1_kindOfLetter_1 18 rfl rfl)
theorem dX1_kindOfLetter_43 : decode cX1_kindOfLetter 43 = .ok (.if_icmp .ne 7, 3) := dk_160 0 7 (dk_at dksX1_kindOfLetter_1 20 rfl rfl)
theorem dX1_kindOfLetter_46 : decode cX1_kindOfLetter 46 = .ok (.iconst 4, 1) := dk_7 (dk_at dksX1_kindOfLetter_1 23 rfl rfl)
theorem dX1_kindOfLetter_47 : decode cX1_kindOfLetter 47 = .ok (.goto 15, 3) := dk_167 0 15 (dk_at dksX1_kindOfLetter_2 0 rfl rfl)
theorem dX1_kindOfLetter_50 : decode cX1_kindOfLetter 50 = .ok (.iload_n 0, 1) := dk_26 (dk_at dksX1_kindOfLetter_2 3 rfl rfl)
theorem dX1_kindOfLetter_51 : decode cX1_kindOfLetter 51 = .ok (.bipush 113, 2) := dk_16 113 (dk_at dksX1_kindOfLetter_2 4 rfl rfl)
theorem dX1_kindOfLetter_53 : decode cX1_kindOfLetter 53 = .ok (.if_icmp .ne 7, 3) := dk_160 0 7 (dk_at dksX1_kindOfLetter_2 6 rfl rfl)
theorem dX1_kindOfLetter_56 : decode cX1_kindOfLetter 56 = .ok (.iconst 5, 1) := dk_8 (dk_at dksX1_kindOfLetter_2 9 rfl rfl)
theorem dX1_kindOfLetter_57 : decode cX1_kindOfLetter 57 = .ok (.goto 5, 3) := dk_167 0 5 (dk_at dksX1_kindOfLetter_2 10 rfl rfl)
theorem dX1_kindOfLetter_60 : decode cX1_kindOfLetter 60 = .ok (.bipush (-9), 2) := dk_16 247 (dk_at dksX1_kindOfLetter_2 13 rfl rfl)
theorem dX1_kindOfLetter_62 : decode cX1_kindOfLetter 62 = .ok (.ireturn, 1) := dk_172 (dk_at dksX1_kindOfLetter_2 15 rfl rfl)
abbrev cX1_twoFigures : ByteArray := prog_10_method_22_code
def yX1_twoFigures : MethodName := ⟨RX1, "twoFigures", "(I)I"⟩
def dkwX1_twoFigures_2 : List UInt8 := [164, 0, 11, 42, 28, 181, 0, 94, 16, 247, 172, 16, 10, 29, 104, 21, 4, 96, 172]
abbrev dktX1_twoFigures_2 : List UInt8 := dkwX1_twoFigures_2 ++ []
def dkwX1_twoFigures_1 : List UInt8 := [182, 0, 108, 54, 4, 21, 4, 16, 247, 160, 0, 6, 16, 247, 172, 16, 10, 29, 104, 21, 4, 96, 27]
abbrev dktX1_twoFigures_1 : List UInt8 := dkwX1_twoFigures_1 ++ dktX1_twoFigures_2
def dkwX1_twoFigures_0 : List UInt8 := [42, 180, 0, 94, 61, 42, 182, 0, 108, 62, 29, 16, 247, 160, 0, 8, 16, 247, 167, 0, 7, 42]
abbrev dktX1_twoFigures_0 : List UInt8 := dkwX1_twoFigures_0 ++ dktX1_twoFigures_1
theorem dksX1_twoFigures_0 : cX1_twoFigures.data.toList.drop 0 = dktX1_twoFigures_0 := by decide +kernel
theorem dksX1_twoFigures_1 : cX1_twoFigures.data.toList.drop 22 = dktX1_twoFigures_1 := dk_seg dksX1_twoFigures_0 22 rfl rfl
theorem dksX1_twoFigures_2 : cX1_twoFigures.data.toList.drop 45 = dktX1_twoFigures_2 := dk_seg dksX1_twoFigures_1 23 rfl rfl
theorem dX1_twoFigures_0 : decode cX1_twoFigures 0 = .ok (.aload_n 0, 1) := dk_42 (dk_at dksX1_twoFigures_0 0 rfl rfl)
theorem dX1_twoFigures_1 : decode cX1_twoFigures 1 = .ok (.getfield 94, 3) := dk_180 0 94 (dk_at dksX1_twoFigures_0 1 rfl rfl)
theorem dX1_twoFigures_4 : decode cX1_twoFigures 4 = .ok (.istore_n 2, 1) := dk_61 (dk_at dksX1_twoFigures_0 4 rfl rfl)
theorem dX1_twoFigures_5 : decode cX1_twoFigures 5 = .ok (.aload_n 0, 1) := dk_42 (dk_at dksX1_twoFigures_0 5 rfl rfl)
theorem dX1_twoFigures_6 : decode cX1_twoFigures 6 = .ok (.invokevirtual 108, 3) := dk_182 0 108 (dk_at dksX1_twoFigures_0 6 rfl rfl)
theorem dX1_twoFigures_9 : decode cX1_twoFigures 9 = .ok (.istore_n 3, 1) := dk_62 (dk_at dksX1_twoFigures_0 9 rfl rfl)
theorem dX1_twoFigures_10 : decode cX1_twoFigures 10 = .ok (.iload_n 3, 1) := dk_29 (dk_at dksX1_twoFigures_0 10 rfl rfl)
theorem dX1_twoFigures_11 : decode cX1_twoFigures 11 = .ok (.bipush (-9), 2) := dk_16 247 (dk_at dksX1_twoFigures_0 11 rfl rfl)
theorem dX1_twoFigures_13 : decode cX1_twoFigures 13 = .ok (.if_icmp .ne 8, 3) := dk_160 0 8 (dk_at dksX1_twoFigures_0 13 rfl rfl)
theorem dX1_twoFigures_16 : decode cX1_twoFigures 16 = .ok (.bipush (-9), 2) := dk_16 247 (dk_at dksX1_twoFigures_0 16 rfl rfl)
theorem dX1_twoFigures_18 : decode cX1_twoFigures 18 = .ok (.goto 7, 3) := dk_167 0 7 (dk_at dksX1_twoFigures_0 18 rfl rfl)
theorem dX1_twoFigures_21 : decode cX1_twoFigures 21 = .ok (.aload_n 0, 1) := dk_42 (dk_at dksX1_twoFigures_0 21 rfl rfl)
theorem dX1_twoFigures_22 : decode cX1_twoFigures 22 = .ok (.invokevirtual 108, 3) := dk_182 0 108 (dk_at dksX1_twoFigures_1 0 rfl rfl)
theorem dX1_twoFigures_25 : decode cX1_twoFigures 25 = .ok (.istore 4, 2) := dk_54 4 (dk_at dksX1_twoFigures_1 3 rfl rfl)
theorem dX1_twoFigures_27 : decode cX1_twoFigures 27 = .ok (.iload 4, 2) := dk_21 4 (dk_at dksX1_twoFigures_1 5 rfl rfl)
theorem dX1_twoFigures_29 : decode cX1_twoFigures 29 = .ok (.bipush (-9), 2) := dk_16 247 (dk_at dksX1_twoFigures_1 7 rfl rfl)
theorem dX1_twoFigures_31 : decode cX1_twoFigures 31 = .ok (.if_icmp .ne 6, 3) := dk_160 0 6 (dk_at dksX1_twoFigures_1 9 rfl rfl)
theorem dX1_twoFigures_34 : decode cX1_twoFigures 34 = .ok (.bipush (-9), 2) := dk_16 247 (dk_at dksX1_twoFigures_1 12 rfl rfl)
theorem dX1_twoFigures_36 : decode cX1_twoFigures 36 = .ok (.ireturn, 1) := dk_172 (dk_at dksX1_twoFigures_1 14 rfl rfl)
theorem dX1_twoFigures_37 : decode cX1_twoFigures 37 = .ok (.bipush 10, 2) := dk_16 10 (dk_at dksX1_twoFigures_1 15 rfl rfl)
theorem dX1_twoFigures_39 : decode cX1_twoFigures 39 = .ok (.iload_n 3, 1) := dk_29 (dk_at dksX1_twoFigures_1 17 rfl rfl)
theorem dX1_twoFigures_40 : decode cX1_twoFigures 40 = .ok (.imul, 1) := dk_104 (dk_at dksX1_twoFigures_1 18 rfl rfl)
theorem dX1_twoFigures_41 : decode cX1_twoFigures 41 = .ok (.iload 4, 2) := dk_21 4 (dk_at dksX1_twoFigures_1 19 rfl rfl)
theorem dX1_twoFigures_43 : decode cX1_twoFigures 43 = .ok (.iadd, 1) := dk_96 (dk_at dksX1_twoFigures_1 21 rfl rfl)
theorem dX1_twoFigures_44 : decode cX1_twoFigures 44 = .ok (.iload_n 1, 1) := dk_27 (dk_at dksX1_twoFigures_1 22 rfl rfl)
theorem dX1_twoFigures_45 : decode cX1_twoFigures 45 = .ok (.if_icmp .le 11, 3) := dk_164 0 11 (dk_at dksX1_twoFigures_2 0 rfl rfl)
theorem dX1_twoFigures_48 : decode cX1_twoFigures 48 = .ok (.aload_n 0, 1) := dk_42 (dk_at dksX1_twoFigures_2 3 rfl rfl)
theorem dX1_twoFigures_49 : decode cX1_twoFigures 49 = .ok (.iload_n 2, 1) := dk_28 (dk_at dksX1_twoFigures_2 4 rfl rfl)
theorem dX1_twoFigures_50 : decode cX1_twoFigures 50 = .ok (.putfield 94, 3) := dk_181 0 94 (dk_at dksX1_twoFigures_2 5 rfl rfl)
theorem dX1_twoFigures_53 : decode cX1_twoFigures 53 = .ok (.bipush (-9), 2) := dk_16 247 (dk_at dksX1_twoFigures_2 8 rfl rfl)
theorem dX1_twoFigures_55 : decode cX1_twoFigures 55 = .ok (.ireturn, 1) := dk_172 (dk_at dksX1_twoFigures_2 10 rfl rfl)
theorem dX1_twoFigures_56 : decode cX1_twoFigures 56 = .ok (.bipush 10, 2) := dk_16 10 (dk_at dksX1_twoFigures_2 11 rfl rfl)
theorem dX1_twoFigures_58 : decode cX1_twoFigures 58 = .ok (.iload_n 3, 1) := dk_29 (dk_at dksX1_twoFigures_2 13 rfl rfl)
theorem dX1_twoFigures_59 : decode cX1_twoFigures 59 = .ok (.imul, 1) := dk_104 (dk_at dksX1_twoFigures_2 14 rfl rfl)
theorem dX1_twoFigures_60 : decode cX1_twoFigures 60 = .ok (.iload 4, 2) := dk_21 4 (dk_at dksX1_twoFigures_2 15 rfl rfl)
theorem dX1_twoFigures_62 : decode cX1_twoFigures 62 = .ok (.iadd, 1) := dk_96 (dk_at dksX1_twoFigures_2 17 rfl rfl)
theorem dX1_twoFigures_63 : decode cX1_twoFigures 63 = .ok (.ireturn, 1) := dk_172 (dk_at dksX1_twoFigures_2 18 rfl rfl)
abbrev cX1_river : ByteArray := prog_10_method_28_code
def yX1_river : MethodName := ⟨RX1, "river", "(I)I"⟩
def dkwX1_river_7 : List UInt8 := [132, 2, 1, 167, 255, 235, 42, 180, 0, 136, 172]
abbrev dktX1_river_7 : List UInt8 := dkwX1_river_7 ++ []
def dkwX1_river_6 : List UInt8 := [167, 255, 194, 4, 61, 28, 7, 162, 0, 22, 42, 180, 0, 7, 17, 3, 53, 28, 104, 3, 96, 2, 79]
abbrev dktX1_river_6 : List UInt8 := dkwX1_river_6 ++ dktX1_river_7
def dkwX1_river_5 : List UInt8 := [46, 79, 42, 180, 0, 7, 16, 9, 28, 96, 42, 180, 0, 35, 6, 28, 104, 5, 96, 46, 79, 132, 2, 1]
abbrev dktX1_river_5 : List UInt8 := dkwX1_river_5 ++ dktX1_river_6
def dkwX1_river_4 : List UInt8 := [180, 0, 35, 6, 28, 104, 46, 79, 42, 180, 0, 7, 6, 28, 96, 42, 180, 0, 35, 6, 28, 104, 4, 96]
abbrev dktX1_river_4 : List UInt8 := dkwX1_river_4 ++ dktX1_river_5
def dkwX1_river_3 : List UInt8 := [180, 0, 117, 181, 0, 136, 3, 61, 28, 42, 180, 0, 136, 162, 0, 60, 42, 180, 0, 13, 28, 42]
abbrev dktX1_river_3 : List UInt8 := dkwX1_river_3 ++ dktX1_river_4
def dkwX1_river_2 : List UInt8 := [180, 0, 7, 28, 3, 79, 132, 2, 1, 167, 255, 239, 42, 180, 0, 7, 5, 42, 180, 0, 114, 79, 42, 42]
abbrev dktX1_river_2 : List UInt8 := dkwX1_river_2 ++ dktX1_river_3
def dkwX1_river_1 : List UInt8 := [42, 27, 182, 0, 133, 16, 247, 159, 0, 6, 16, 252, 172, 3, 61, 28, 17, 3, 53, 162, 0, 16, 42]
abbrev dktX1_river_1 : List UInt8 := dkwX1_river_1 ++ dktX1_river_2
def dkwX1_river_0 : List UInt8 := [27, 184, 0, 88, 154, 0, 5, 2, 172, 42, 180, 0, 22, 27, 46, 156, 0, 9, 42, 4, 182, 0, 69, 172]
abbrev dktX1_river_0 : List UInt8 := dkwX1_river_0 ++ dktX1_river_1
theorem dksX1_river_0 : cX1_river.data.toList.drop 0 = dktX1_river_0 := by decide +kernel
theorem dksX1_river_1 : cX1_river.data.toList.drop 24 = dktX1_river_1 := dk_seg dksX1_river_0 24 rfl rfl
theorem dksX1_river_2 : cX1_river.data.toList.drop 47 = dktX1_river_2 := dk_seg dksX1_river_1 23 rfl rfl
theorem dksX1_river_3 : cX1_river.data.toList.drop 71 = dktX1_river_3 := dk_seg dksX1_river_2 24 rfl rfl
theorem dksX1_river_4 : cX1_river.data.toList.drop 93 = dktX1_river_4 := dk_seg dksX1_river_3 22 rfl rfl
theorem dksX1_river_5 : cX1_river.data.toList.drop 117 = dktX1_river_5 := dk_seg dksX1_river_4 24 rfl rfl
theorem dksX1_river_6 : cX1_river.data.toList.drop 141 = dktX1_river_6 := dk_seg dksX1_river_5 24 rfl rfl
theorem dksX1_river_7 : cX1_river.data.toList.drop 164 = dktX1_river_7 := dk_seg dksX1_river_6 23 rfl rfl
theorem dX1_river_0 : decode cX1_river 0 = .ok (.iload_n 1, 1) := dk_27 (dk_at dksX1_river_0 0 rfl rfl)
theorem dX1_river_1 : decode cX1_river 1 = .ok (.invokestatic 88, 3) := dk_184 0 88 (dk_at dksX1_river_0 1 rfl rfl)
theorem dX1_river_4 : decode cX1_river 4 = .ok (.ifCond .ne 5, 3) := dk_154 0 5 (dk_at dksX1_river_0 4 rfl rfl)
theorem dX1_river_7 : decode cX1_river 7 = .ok (.iconst (-1), 1) := dk_2 (dk_at dksX1_river_0 7 rfl rfl)
theorem dX1_river_8 : decode cX1_river 8 = .ok (.ireturn, 1) := dk_172 (dk_at dksX1_river_0 8 rfl rfl)
theorem dX1_river_9 : decode cX1_river 9 = .ok (.aload_n 0, 1) := dk_42 (dk_at dksX1_river_0 9 rfl rfl)
theorem dX1_river_10 : decode cX1_river 10 = .ok (.getfield 22, 3) := dk_180 0 22 (dk_at dksX1_river_0 10 rfl rfl)
theorem dX1_river_13 : decode cX1_river 13 = .ok (.iload_n 1, 1) := dk_27 (dk_at dksX1_river_0 13 rfl rfl)
theorem dX1_river_14 : decode cX1_river 14 = .ok (.iaload, 1) := dk_46 (dk_at dksX1_river_0 14 rfl rfl)
theorem dX1_river_15 : decode cX1_river 15 = .ok (.ifCond .ge 9, 3) := dk_156 0 9 (dk_at dksX1_river_0 15 rfl rfl)
theorem dX1_river_18 : decode cX1_river 18 = .ok (.aload_n 0, 1) := dk_42 (dk_at dksX1_river_0 18 rfl rfl)
theorem dX1_river_19 : decode cX1_river 19 = .ok (.iconst 1, 1) := dk_4 (dk_at dksX1_river_0 19 rfl rfl)
theorem dX1_river_20 : decode cX1_river 20 = .ok (.invokevirtual 69, 3) := dk_182 0 69 (dk_at dksX1_river_0 20 rfl rfl)
theorem dX1_river_23 : decode cX1_river 23 = .ok (.ireturn, 1) := dk_172 (dk_at dksX1_river_0 23 rfl rfl)
theorem dX1_river_24 : decode cX1_river 24 = .ok (.aload_n 0, 1) := dk_42 (dk_at dksX1_river_1 0 rfl rfl)
theorem dX1_river_25 : decode cX1_river 25 = .ok (.iload_n 1, 1) := dk_27 (dk_at dksX1_river_1 1 rfl rfl)
theorem dX1_river_26 : decode cX1_river 26 = .ok (.invokevirtual 133, 3) := dk_182 0 133 (dk_at dksX1_river_1 2 rfl rfl)
theorem dX1_river_29 : decode cX1_river 29 = .ok (.bipush (-9), 2) := dk_16 247 (dk_at dksX1_river_1 5 rfl rfl)
theorem dX1_river_31 : decode cX1_river 31 = .ok (.if_icmp .eq 6, 3) := dk_159 0 6 (dk_at dksX1_river_1 7 rfl rfl)
theorem dX1_river_34 : decode cX1_river 34 = .ok (.bipush (-4), 2) := dk_16 252 (dk_at dksX1_river_1 10 rfl rfl)
theorem dX1_river_36 : decode cX1_river 36 = .ok (.ireturn, 1) := dk_172 (dk_at dksX1_river_1 12 rfl rfl)
theorem dX1_river_37 : decode cX1_river 37 = .ok (.iconst 0, 1) := dk_3 (dk_at dksX1_river_1 13 rfl rfl)
theorem dX1_river_38 : decode cX1_river 38 = .ok (.istore_n 2, 1) := dk_61 (dk_at dksX1_river_1 14 rfl rfl)
theorem dX1_river_39 : decode cX1_river 39 = .ok (.iload_n 2, 1) := dk_28 (dk_at dksX1_river_1 15 rfl rfl)
theorem dX1_river_40 : decode cX1_river 40 = .ok (.sipush 821, 3) := dk_17 3 53 (dk_at dksX1_river_1 16 rfl rfl)
theorem dX1_river_43 : decode cX1_river 43 = .ok (.if_icmp .ge 16, 3) := dk_162 0 16 (dk_at dksX1_river_1 19 rfl rfl)
theorem dX1_river_46 : decode cX1_river 46 = .ok (.aload_n 0, 1) := dk_42 (dk_at dksX1_river_1 22 rfl rfl)
theorem dX1_river_47 : decode cX1_river 47 = .ok (.getfield 7, 3) := dk_180 0 7 (dk_at dksX1_river_2 0 rfl rfl)
theorem dX1_river_50 : decode cX1_river 50 = .ok (.iload_n 2, 1) := dk_28 (dk_at dksX1_river_2 3 rfl rfl)
theorem dX1_river_51 : decode cX1_river 51 = .ok (.iconst 0, 1) := dk_3 (dk_at dksX1_river_2 4 rfl rfl)
theorem dX1_river_52 : decode cX1_river 52 = .ok (.iastore, 1) := dk_79 (dk_at dksX1_river_2 5 rfl rfl)
theorem dX1_river_53 : decode cX1_river 53 = .ok (.iinc 2 1, 3) := dk_132 2 1 (dk_at dksX1_river_2 6 rfl rfl)
theorem dX1_river_56 : decode cX1_river 56 = .ok (.goto (-17), 3) := dk_167 255 239 (dk_at dksX1_river_2 9 rfl rfl)
theorem dX1_river_59 : decode cX1_river 59 = .ok (.aload_n 0, 1) := dk_42 (dk_at dksX1_river_2 12 rfl rfl)
theorem dX1_river_60 : decode cX1_river 60 = .ok (.getfield 7, 3) := dk_180 0 7 (dk_at dksX1_river_2 13 rfl rfl)
theorem dX1_river_63 : decode cX1_river 63 = .ok (.iconst 2, 1) := dk_5 (dk_at dksX1_river_2 16 rfl rfl)
theorem dX1_river_64 : decode cX1_river 64 = .ok (.aload_n 0, 1) := dk_42 (dk_at dksX1_river_2 17 rfl rfl)
theorem dX1_river_65 : decode cX1_river 65 = .ok (.getfield 114, 3) := dk_180 0 114 (dk_at dksX1_river_2 18 rfl rfl)
theorem dX1_river_68 : decode cX1_river 68 = .ok (.iastore, 1) := dk_79 (dk_at dksX1_river_2 21 rfl rfl)
theorem dX1_river_69 : decode cX1_river 69 = .ok (.aload_n 0, 1) := dk_42 (dk_at dksX1_river_2 22 rfl rfl)
theorem dX1_river_70 : decode cX1_river 70 = .ok (.aload_n 0, 1) := dk_42 (dk_at dksX1_river_2 23 rfl rfl)
theorem dX1_river_71 : decode cX1_river 71 = .ok (.getfield 117, 3) := dk_180 0 117 (dk_at dksX1_river_3 0 rfl rfl)
theorem dX1_river_74 : decode cX1_river 74 = .ok (.putfield 136, 3) := dk_181 0 136 (dk_at dksX1_river_3 3 rfl rfl)
theorem dX1_river_77 : decode cX1_river 77 = .ok (.iconst 0, 1) := dk_3 (dk_at dksX1_river_3 6 rfl rfl)
theorem dX1_river_78 : decode cX1_river 78 = .ok (.istore_n 2, 1) := dk_61 (dk_at dksX1_river_3 7 rfl rfl)
theorem dX1_river_79 : decode cX1_river 79 = .ok (.iload_n 2, 1) := dk_28 (dk_at dksX1_river_3 8 rfl rfl)
theorem dX1_river_80 : decode cX1_river 80 = .ok (.aload_n 0, 1) := dk_42 (dk_at dksX1_river_3 9 rfl rfl)
theorem dX1_river_81 : decode cX1_river 81 = .ok (.getfield 136, 3) := dk_180 0 136 (dk_at dksX1_river_3 10 rfl rfl)
theorem dX1_river_84 : decode cX1_river 84 = .ok (.if_icmp .ge 60, 3) := dk_162 0 60 (dk_at dksX1_river_3 13 rfl rfl)
theorem dX1_river_87 : decode cX1_river 87 = .ok (.aload_n 0, 1) := dk_42 (dk_at dksX1_river_3 16 rfl rfl)
theorem dX1_river_88 : decode cX1_river 88 = .ok (.getfield 13, 3) := dk_180 0 13 (dk_at dksX1_river_3 17 rfl rfl)
theorem dX1_river_91 : decode cX1_river 91 = .ok (.iload_n 2, 1) := dk_28 (dk_at dksX1_river_3 20 rfl rfl)
theorem dX1_river_92 : decode cX1_river 92 = .ok (.aload_n 0, 1) := dk_42 (dk_at dksX1_river_3 21 rfl rfl)
theorem dX1_river_93 : decode cX1_river 93 = .ok (.getfield 35, 3) := dk_180 0 35 (dk_at dksX1_river_4 0 rfl rfl)
theorem dX1_river_96 : decode cX1_river 96 = .ok (.iconst 3, 1) := dk_6 (dk_at dksX1_river_4 3 rfl rfl)
theorem dX1_river_97 : decode cX1_river 97 = .ok (.iload_n 2, 1) := dk_28 (dk_at dksX1_river_4 4 rfl rfl)
theorem dX1_river_98 : decode cX1_river 98 = .ok (.imul, 1) := dk_104 (dk_at dksX1_river_4 5 rfl rfl)
theorem dX1_river_99 : decode cX1_river 99 = .ok (.iaload, 1) := dk_46 (dk_at dksX1_river_4 6 rfl rfl)
theorem dX1_river_100 : decode cX1_river 100 = .ok (.iastore, 1) := dk_79 (dk_at dksX1_river_4 7 rfl rfl)
theorem dX1_river_101 : decode cX1_river 101 = .ok (.aload_n 0, 1) := dk_42 (dk_at dksX1_river_4 8 rfl rfl)
theorem dX1_river_102 : decode cX1_river 102 = .ok (.getfield 7, 3) := dk_180 0 7 (dk_at dksX1_river_4 9 rfl rfl)
theorem dX1_river_105 : decode cX1_river 105 = .ok (.iconst 3, 1) := dk_6 (dk_at dksX1_river_4 12 rfl rfl)
theorem dX1_river_106 : decode cX1_river 106 = .ok (.iload_n 2, 1) := dk_28 (dk_at dksX1_river_4 13 rfl rfl)
theorem dX1_river_107 : decode cX1_river 107 = .ok (.iadd, 1) := dk_96 (dk_at dksX1_river_4 14 rfl rfl)
theorem dX1_river_108 : decode cX1_river 108 = .ok (.aload_n 0, 1) := dk_42 (dk_at dksX1_river_4 15 rfl rfl)
theorem dX1_river_109 : decode cX1_river 109 = .ok (.getfield 35, 3) := dk_180 0 35 (dk_at dksX1_river_4 16 rfl rfl)
theorem dX1_river_112 : decode cX1_river 112 = .ok (.iconst 3, 1) := dk_6 (dk_at dksX1_river_4 19 rfl rfl)
theorem dX1_river_113 : decode cX1_river 113 = .ok (.iload_n 2, 1) := dk_28 (dk_at dksX1_river_4 20 rfl rfl)
theorem dX1_river_114 : decode cX1_river 114 = .ok (.imul, 1) := dk_104 (dk_at dksX1_river_4 21 rfl rfl)
theorem dX1_river_115 : decode cX1_river 115 = .ok (.iconst 1, 1) := dk_4 (dk_at dksX1_river_4 22 rfl rfl)
theorem dX1_river_116 : decode cX1_river 116 = .ok (.iadd, 1) := dk_96 (dk_at dksX1_river_4 23 rfl rfl)
theorem dX1_river_117 : decode cX1_river 117 = .ok (.iaload, 1) := dk_46 (dk_at dksX1_river_5 0 rfl rfl)
theorem dX1_river_118 : decode cX1_river 118 = .ok (.iastore, 1) := dk_79 (dk_at dksX1_river_5 1 rfl rfl)
theorem dX1_river_119 : decode cX1_river 119 = .ok (.aload_n 0, 1) := dk_42 (dk_at dksX1_river_5 2 rfl rfl)
theorem dX1_river_120 : decode cX1_river 120 = .ok (.getfield 7, 3) := dk_180 0 7 (dk_at dksX1_river_5 3 rfl rfl)
theorem dX1_river_123 : decode cX1_river 123 = .ok (.bipush 9, 2) := dk_16 9 (dk_at dksX1_river_5 6 rfl rfl)
theorem dX1_river_125 : decode cX1_river 125 = .ok (.iload_n 2, 1) := dk_28 (dk_at dksX1_river_5 8 rfl rfl)
theorem dX1_river_126 : decode cX1_river 126 = .ok (.iadd, 1) := dk_96 (dk_at dksX1_river_5 9 rfl rfl)
theorem dX1_river_127 : decode cX1_river 127 = .ok (.aload_n 0, 1) := dk_42 (dk_at dksX1_river_5 10 rfl rfl)
theorem dX1_river_128 : decode cX1_river 128 = .ok (.getfield 35, 3) := dk_180 0 35 (dk_at dksX1_river_5 11 rfl rfl)
theorem dX1_river_131 : decode cX1_river 131 = .ok (.iconst 3, 1) := dk_6 (dk_at dksX1_river_5 14 rfl rfl)
theorem dX1_river_132 : decode cX1_river 132 = .ok (.iload_n 2, 1) := dk_28 (dk_at dksX1_river_5 15 rfl rfl)
theorem dX1_river_133 : decode cX1_river 133 = .ok (.imul, 1) := dk_104 (dk_at dksX1_river_5 16 rfl rfl)
theorem dX1_river_134 : decode cX1_river 134 = .ok (.iconst 2, 1) := dk_5 (dk_at dksX1_river_5 17 rfl rfl)
theorem dX1_river_135 : decode cX1_river 135 = .ok (.iadd, 1) := dk_96 (dk_at dksX1_river_5 18 rfl rfl)
theorem dX1_river_136 : decode cX1_river 136 = .ok (.iaload, 1) := dk_46 (dk_at dksX1_river_5 19 rfl rfl)
theorem dX1_river_137 : decode cX1_river 137 = .ok (.iastore, 1) := dk_79 (dk_at dksX1_river_5 20 rfl rfl)
theorem dX1_river_138 : decode cX1_river 138 = .ok (.iinc 2 1, 3) := dk_132 2 1 (dk_at dksX1_river_5 21 rfl rfl)
theorem dX1_river_141 : decode cX1_river 141 = .ok (.goto (-62), 3) := dk_167 255 194 (dk_at dksX1_river_6 0 rfl rfl)
theorem dX1_river_144 : decode cX1_river 144 = .ok (.iconst 1, 1) := dk_4 (dk_at dksX1_river_6 3 rfl rfl)
theorem dX1_river_145 : decode cX1_river 145 = .ok (.istore_n 2, 1) := dk_61 (dk_at dksX1_river_6 4 rfl rfl)
theorem dX1_river_146 : decode cX1_river 146 = .ok (.iload_n 2, 1) := dk_28 (dk_at dksX1_river_6 5 rfl rfl)
theorem dX1_river_147 : decode cX1_river 147 = .ok (.iconst 4, 1) := dk_7 (dk_at dksX1_river_6 6 rfl rfl)
theorem dX1_river_148 : decode cX1_river 148 = .ok (.if_icmp .ge 22, 3) := dk_162 0 22 (dk_at dksX1_river_6 7 rfl rfl)
theorem dX1_river_151 : decode cX1_river 151 = .ok (.aload_n 0, 1) := dk_42 (dk_at dksX1_river_6 10 rfl rfl)
theorem dX1_river_152 : decode cX1_river 152 = .ok (.getfield 7, 3) := dk_180 0 7 (dk_at dksX1_river_6 11 rfl rfl)
theorem dX1_river_155 : decode cX1_river 155 = .ok (.sipush 821, 3) := dk_17 3 53 (dk_at dksX1_river_6 14 rfl rfl)
theorem dX1_river_158 : decode cX1_river 158 = .ok (.iload_n 2, 1) := dk_28 (dk_at dksX1_river_6 17 rfl rfl)
theorem dX1_river_159 : decode cX1_river 159 = .ok (.imul, 1) := dk_104 (dk_at dksX1_river_6 18 rfl rfl)
theorem dX1_river_160 : decode cX1_river 160 = .ok (.iconst 0, 1) := dk_3 (dk_at dksX1_river_6 19 rfl rfl)
theorem dX1_river_161 : decode cX1_river 161 = .ok (.iadd, 1) := dk_96 (dk_at dksX1_river_6 20 rfl rfl)
theorem dX1_river_162 : decode cX1_river 162 = .ok (.iconst (-1), 1) := dk_2 (dk_at dksX1_river_6 21 rfl rfl)
theorem dX1_river_163 : decode cX1_river 163 = .ok (.iastore, 1) := dk_79 (dk_at dksX1_river_6 22 rfl rfl)
theorem dX1_river_164 : decode cX1_river 164 = .ok (.iinc 2 1, 3) := dk_132 2 1 (dk_at dksX1_river_7 0 rfl rfl)
theorem dX1_river_167 : decode cX1_river 167 = .ok (.goto (-21), 3) := dk_167 255 235 (dk_at dksX1_river_7 3 rfl rfl)
theorem dX1_river_170 : decode cX1_river 170 = .ok (.aload_n 0, 1) := dk_42 (dk_at dksX1_river_7 6 rfl rfl)
theorem dX1_river_171 : decode cX1_river 171 = .ok (.getfield 136, 3) := dk_180 0 136 (dk_at dksX1_river_7 7 rfl rfl)
theorem dX1_river_174 : decode cX1_river 174 = .ok (.ireturn, 1) := dk_172 (dk_at dksX1_river_7 10 rfl rfl)
abbrev cX1_one : ByteArray := prog_10_method_38_code
def yX1_one : MethodName := ⟨RX1, "one", "(II)I"⟩
def dkwX1_one_1 : List UInt8 := [182, 0, 165, 182, 0, 81, 167, 0, 4, 2, 172]
abbrev dktX1_one_1 : List UInt8 := dkwX1_one_1 ++ []
def dkwX1_one_0 : List UInt8 := [42, 27, 182, 0, 162, 153, 0, 28, 28, 133, 9, 20, 0, 57, 184, 0, 59, 153, 0, 16, 42, 42, 27, 28]
abbrev dktX1_one_0 : List UInt8 := dkwX1_one_0 ++ dktX1_one_1
theorem dksX1_one_0 : cX1_one.data.toList.drop 0 = dktX1_one_0 := by decide +kernel
theorem dksX1_one_1 : cX1_one.data.toList.drop 24 = dktX1_one_1 := dk_seg dksX1_one_0 24 rfl rfl
theorem dX1_one_0 : decode cX1_one 0 = .ok (.aload_n 0, 1) := dk_42 (dk_at dksX1_one_0 0 rfl rfl)
theorem dX1_one_1 : decode cX1_one 1 = .ok (.iload_n 1, 1) := dk_27 (dk_at dksX1_one_0 1 rfl rfl)
theorem dX1_one_2 : decode cX1_one 2 = .ok (.invokevirtual 162, 3) := dk_182 0 162 (dk_at dksX1_one_0 2 rfl rfl)
theorem dX1_one_5 : decode cX1_one 5 = .ok (.ifCond .eq 28, 3) := dk_153 0 28 (dk_at dksX1_one_0 5 rfl rfl)
theorem dX1_one_8 : decode cX1_one 8 = .ok (.iload_n 2, 1) := dk_28 (dk_at dksX1_one_0 8 rfl rfl)
theorem dX1_one_9 : decode cX1_one 9 = .ok (.i2l, 1) := dk_133 (dk_at dksX1_one_0 9 rfl rfl)
theorem dX1_one_10 : decode cX1_one 10 = .ok (.lconst 0, 1) := dk_9 (dk_at dksX1_one_0 10 rfl rfl)
theorem dX1_one_11 : decode cX1_one 11 = .ok (.ldc2_w 57, 3) := dk_20 0 57 (dk_at dksX1_one_0 11 rfl rfl)
theorem dX1_one_14 : decode cX1_one 14 = .ok (.invokestatic 59, 3) := dk_184 0 59 (dk_at dksX1_one_0 14 rfl rfl)
theorem dX1_one_17 : decode cX1_one 17 = .ok (.ifCond .eq 16, 3) := dk_153 0 16 (dk_at dksX1_one_0 17 rfl rfl)
theorem dX1_one_20 : decode cX1_one 20 = .ok (.aload_n 0, 1) := dk_42 (dk_at dksX1_one_0 20 rfl rfl)
theorem dX1_one_21 : decode cX1_one 21 = .ok (.aload_n 0, 1) := dk_42 (dk_at dksX1_one_0 21 rfl rfl)
theorem dX1_one_22 : decode cX1_one 22 = .ok (.iload_n 1, 1) := dk_27 (dk_at dksX1_one_0 22 rfl rfl)
theorem dX1_one_23 : decode cX1_one 23 = .ok (.iload_n 2, 1) := dk_28 (dk_at dksX1_one_0 23 rfl rfl)
theorem dX1_one_24 : decode cX1_one 24 = .ok (.invokevirtual 165, 3) := dk_182 0 165 (dk_at dksX1_one_1 0 rfl rfl)
theorem dX1_one_27 : decode cX1_one 27 = .ok (.invokevirtual 81, 3) := dk_182 0 81 (dk_at dksX1_one_1 3 rfl rfl)
theorem dX1_one_30 : decode cX1_one 30 = .ok (.goto 4, 3) := dk_167 0 4 (dk_at dksX1_one_1 6 rfl rfl)
theorem dX1_one_33 : decode cX1_one 33 = .ok (.iconst (-1), 1) := dk_2 (dk_at dksX1_one_1 9 rfl rfl)
theorem dX1_one_34 : decode cX1_one 34 = .ok (.ireturn, 1) := dk_172 (dk_at dksX1_one_1 10 rfl rfl)
abbrev cX1_isOne : ByteArray := prog_10_method_29_code
def yX1_isOne : MethodName := ⟨RX1, "isOne", "(I)Z"⟩
def dkwX1_isOne_0 : List UInt8 := [27, 133, 9, 42, 180, 0, 136, 4, 100, 133, 184, 0, 59, 172]
abbrev dktX1_isOne_0 : List UInt8 := dkwX1_isOne_0 ++ []
theorem dksX1_isOne_0 : cX1_isOne.data.toList.drop 0 = dktX1_isOne_0 := by decide +kernel
theorem dX1_isOne_0 : decode cX1_isOne 0 = .ok (.iload_n 1, 1) := dk_27 (dk_at dksX1_isOne_0 0 rfl rfl)
theorem dX1_isOne_1 : decode cX1_isOne 1 = .ok (.i2l, 1) := dk_133 (dk_at dksX1_isOne_0 1 rfl rfl)
theorem dX1_isOne_2 : decode cX1_isOne 2 = .ok (.lconst 0, 1) := dk_9 (dk_at dksX1_isOne_0 2 rfl rfl)
theorem dX1_isOne_3 : decode cX1_isOne 3 = .ok (.aload_n 0, 1) := dk_42 (dk_at dksX1_isOne_0 3 rfl rfl)
theorem dX1_isOne_4 : decode cX1_isOne 4 = .ok (.getfield 136, 3) := dk_180 0 136 (dk_at dksX1_isOne_0 4 rfl rfl)
theorem dX1_isOne_7 : decode cX1_isOne 7 = .ok (.iconst 1, 1) := dk_4 (dk_at dksX1_isOne_0 7 rfl rfl)
theorem dX1_isOne_8 : decode cX1_isOne 8 = .ok (.isub, 1) := dk_100 (dk_at dksX1_isOne_0 8 rfl rfl)
theorem dX1_isOne_9 : decode cX1_isOne 9 = .ok (.i2l, 1) := dk_133 (dk_at dksX1_isOne_0 9 rfl rfl)
theorem dX1_isOne_10 : decode cX1_isOne 10 = .ok (.invokestatic 59, 3) := dk_184 0 59 (dk_at dksX1_isOne_0 10 rfl rfl)
theorem dX1_isOne_13 : decode cX1_isOne 13 = .ok (.ireturn, 1) := dk_172 (dk_at dksX1_isOne_0 13 rfl rfl)
abbrev cX1_toldOf : ByteArray := prog_10_method_37_code
def yX1_toldOf : MethodName := ⟨RX1, "toldOf", "(II)I"⟩
def dkwX1_toldOf_4 : List UInt8 := [182, 0, 142, 172]
abbrev dktX1_toldOf_4 : List UInt8 := dkwX1_toldOf_4 ++ []
def dkwX1_toldOf_3 : List UInt8 := [46, 172, 42, 3, 27, 182, 0, 153, 172, 42, 180, 0, 7, 16, 15, 27, 96, 46, 172, 42, 3, 27]
abbrev dktX1_toldOf_3 : List UInt8 := dkwX1_toldOf_3 ++ dktX1_toldOf_4
def dkwX1_toldOf_2 : List UInt8 := [42, 180, 0, 13, 27, 46, 172, 42, 180, 0, 7, 6, 27, 96, 46, 172, 42, 180, 0, 7, 16, 9, 27, 96]
abbrev dktX1_toldOf_2 : List UInt8 := dkwX1_toldOf_2 ++ dktX1_toldOf_3
def dkwX1_toldOf_1 : List UInt8 := [170, 0, 0, 0, 0, 0, 78, 0, 0, 0, 0, 0, 0, 0, 4, 0, 0, 0, 35, 0, 0, 0, 42, 0, 0, 0, 51, 0, 0, 0, 61, 0, 0, 0, 68]
abbrev dktX1_toldOf_1 : List UInt8 := dkwX1_toldOf_1 ++ dktX1_toldOf_2
def dkwX1_toldOf_0 : List UInt8 := [28]
abbrev dktX1_toldOf_0 : List UInt8 := dkwX1_toldOf_0 ++ dktX1_toldOf_1
theorem dksX1_toldOf_0 : cX1_toldOf.data.toList.drop 0 = dktX1_toldOf_0 := by decide +kernel
theorem dksX1_toldOf_1 : cX1_toldOf.data.toList.drop 1 = dktX1_toldOf_1 := dk_seg dksX1_toldOf_0 1 rfl rfl
theorem dksX1_toldOf_2 : cX1_toldOf.data.toList.drop 36 = dktX1_toldOf_2 := dk_seg dksX1_toldOf_1 35 rfl rfl
theorem dksX1_toldOf_3 : cX1_toldOf.data.toList.drop 60 = dktX1_toldOf_3 := dk_seg dksX1_toldOf_2 24 rfl rfl
theorem dksX1_toldOf_4 : cX1_toldOf.data.toList.drop 82 = dktX1_toldOf_4 := dk_seg dksX1_toldOf_3 22 rfl rfl
theorem dX1_toldOf_0 : decode cX1_toldOf 0 = .ok (.iload_n 2, 1) := dk_28 (dk_at dksX1_toldOf_0 0 rfl rfl)
theorem dX1_toldOf_1 : decode cX1_toldOf 1 = .ok (.tableswitch 78 0 4 #[35, 42, 51, 61, 68], 35) := by decide +kernel
theorem dX1_toldOf_36 : decode cX1_toldOf 36 = .ok (.aload_n 0, 1) := dk_42 (dk_at dksX1_toldOf_2 0 rfl rfl)
theorem dX1_toldOf_37 : decode cX1_toldOf 37 = .ok (.getfield 13, 3) := dk_180 0 13 (dk_at dksX1_toldOf_2 1 rfl rfl)
theorem dX1_toldOf_40 : decode cX1_toldOf 40 = .ok (.iload_n 1, 1) := dk_27 (dk_at dksX1_toldOf_2 4 rfl rfl)
theorem dX1_toldOf_41 : decode cX1_toldOf 41 = .ok (.iaload, 1) := dk_46 (dk_at dksX1_toldOf_2 5 rfl rfl)
theorem dX1_toldOf_42 : decode cX1_toldOf 42 = .ok (.ireturn, 1) := dk_172 (dk_at dksX1_toldOf_2 6 rfl rfl)
theorem dX1_toldOf_43 : decode cX1_toldOf 43 = .ok (.aload_n 0, 1) := dk_42 (dk_at dksX1_toldOf_2 7 rfl rfl)
theorem dX1_toldOf_44 : decode cX1_toldOf 44 = .ok (.getfield 7, 3) := dk_180 0 7 (dk_at dksX1_toldOf_2 8 rfl rfl)
theorem dX1_toldOf_47 : decode cX1_toldOf 47 = .ok (.iconst 3, 1) := dk_6 (dk_at dksX1_toldOf_2 11 rfl rfl)
theorem dX1_toldOf_48 : decode cX1_toldOf 48 = .ok (.iload_n 1, 1) := dk_27 (dk_at dksX1_toldOf_2 12 rfl rfl)
theorem dX1_toldOf_49 : decode cX1_toldOf 49 = .ok (.iadd, 1) := dk_96 (dk_at dksX1_toldOf_2 13 rfl rfl)
theorem dX1_toldOf_50 : decode cX1_toldOf 50 = .ok (.iaload, 1) := dk_46 (dk_at dksX1_toldOf_2 14 rfl rfl)
theorem dX1_toldOf_51 : decode cX1_toldOf 51 = .ok (.ireturn, 1) := dk_172 (dk_at dksX1_toldOf_2 15 rfl rfl)
theorem dX1_toldOf_52 : decode cX1_toldOf 52 = .ok (.aload_n 0, 1) := dk_42 (dk_at dksX1_toldOf_2 16 rfl rfl)
theorem dX1_toldOf_53 : decode cX1_toldOf 53 = .ok (.getfield 7, 3) := dk_180 0 7 (dk_at dksX1_toldOf_2 17 rfl rfl)
theorem dX1_toldOf_56 : decode cX1_toldOf 56 = .ok (.bipush 9, 2) := dk_16 9 (dk_at dksX1_toldOf_2 20 rfl rfl)
theorem dX1_toldOf_58 : decode cX1_toldOf 58 = .ok (.iload_n 1, 1) := dk_27 (dk_at dksX1_toldOf_2 22 rfl rfl)
theorem dX1_toldOf_59 : decode cX1_toldOf 59 = .ok (.iadd, 1) := dk_96 (dk_at dksX1_toldOf_2 23 rfl rfl)
theorem dX1_toldOf_60 : decode cX1_toldOf 60 = .ok (.iaload, 1) := dk_46 (dk_at dksX1_toldOf_3 0 rfl rfl)
theorem dX1_toldOf_61 : decode cX1_toldOf 61 = .ok (.ireturn, 1) := dk_172 (dk_at dksX1_toldOf_3 1 rfl rfl)
theorem dX1_toldOf_62 : decode cX1_toldOf 62 = .ok (.aload_n 0, 1) := dk_42 (dk_at dksX1_toldOf_3 2 rfl rfl)
theorem dX1_toldOf_63 : decode cX1_toldOf 63 = .ok (.iconst 0, 1) := dk_3 (dk_at dksX1_toldOf_3 3 rfl rfl)
theorem dX1_toldOf_64 : decode cX1_toldOf 64 = .ok (.iload_n 1, 1) := dk_27 (dk_at dksX1_toldOf_3 4 rfl rfl)
theorem dX1_toldOf_65 : decode cX1_toldOf 65 = .ok (.invokevirtual 153, 3) := dk_182 0 153 (dk_at dksX1_toldOf_3 5 rfl rfl)
theorem dX1_toldOf_68 : decode cX1_toldOf 68 = .ok (.ireturn, 1) := dk_172 (dk_at dksX1_toldOf_3 8 rfl rfl)
theorem dX1_toldOf_69 : decode cX1_toldOf 69 = .ok (.aload_n 0, 1) := dk_42 (dk_at dksX1_toldOf_3 9 rfl rfl)
theorem dX1_toldOf_70 : decode cX1_toldOf 70 = .ok (.getfield 7, 3) := dk_180 0 7 (dk_at dksX1_toldOf_3 10 rfl rfl)
theorem dX1_toldOf_73 : decode cX1_toldOf 73 = .ok (.bipush 15, 2) := dk_16 15 (dk_at dksX1_toldOf_3 13 rfl rfl)
theorem dX1_toldOf_75 : decode cX1_toldOf 75 = .ok (.iload_n 1, 1) := dk_27 (dk_at dksX1_toldOf_3 15 rfl rfl)
theorem dX1_toldOf_76 : decode cX1_toldOf 76 = .ok (.iadd, 1) := dk_96 (dk_at dksX1_toldOf_3 16 rfl rfl)
theorem dX1_toldOf_77 : decode cX1_toldOf 77 = .ok (.iaload, 1) := dk_46 (dk_at dksX1_toldOf_3 17 rfl rfl)
theorem dX1_toldOf_78 : decode cX1_toldOf 78 = .ok (.ireturn, 1) := dk_172 (dk_at dksX1_toldOf_3 18 rfl rfl)
theorem dX1_toldOf_79 : decode cX1_toldOf 79 = .ok (.aload_n 0, 1) := dk_42 (dk_at dksX1_toldOf_3 19 rfl rfl)
theorem dX1_toldOf_80 : decode cX1_toldOf 80 = .ok (.iconst 0, 1) := dk_3 (dk_at dksX1_toldOf_3 20 rfl rfl)
theorem dX1_toldOf_81 : decode cX1_toldOf 81 = .ok (.iload_n 1, 1) := dk_27 (dk_at dksX1_toldOf_3 21 rfl rfl)
theorem dX1_toldOf_82 : decode cX1_toldOf 82 = .ok (.invokevirtual 142, 3) := dk_182 0 142 (dk_at dksX1_toldOf_4 0 rfl rfl)
theorem dX1_toldOf_85 : decode cX1_toldOf 85 = .ok (.ireturn, 1) := dk_172 (dk_at dksX1_toldOf_4 3 rfl rfl)
abbrev cX1_daresIn : ByteArray := prog_10_method_33_code
def yX1_daresIn : MethodName := ⟨RX1, "daresIn", "(II)I"⟩
def dkwX1_daresIn_1 : List UInt8 := [46, 42, 27, 28, 182, 0, 142, 184, 0, 145, 172]
abbrev dktX1_daresIn_1 : List UInt8 := dkwX1_daresIn_1 ++ []
def dkwX1_daresIn_0 : List UInt8 := [42, 180, 0, 13, 28, 46, 42, 180, 0, 7, 27, 16, 9, 96, 28, 96, 46, 42, 180, 0, 7, 27, 4, 96]
abbrev dktX1_daresIn_0 : List UInt8 := dkwX1_daresIn_0 ++ dktX1_daresIn_1
theorem dksX1_daresIn_0 : cX1_daresIn.data.toList.drop 0 = dktX1_daresIn_0 := by decide +kernel
theorem dksX1_daresIn_1 : cX1_daresIn.data.toList.drop 24 = dktX1_daresIn_1 := dk_seg dksX1_daresIn_0 24 rfl rfl
theorem dX1_daresIn_0 : decode cX1_daresIn 0 = .ok (.aload_n 0, 1) := dk_42 (dk_at dksX1_daresIn_0 0 rfl rfl)
theorem dX1_daresIn_1 : decode cX1_daresIn 1 = .ok (.getfield 13, 3) := dk_180 0 13 (dk_at dksX1_daresIn_0 1 rfl rfl)
theorem dX1_daresIn_4 : decode cX1_daresIn 4 = .ok (.iload_n 2, 1) := dk_28 (dk_at dksX1_daresIn_0 4 rfl rfl)
theorem dX1_daresIn_5 : decode cX1_daresIn 5 = .ok (.iaload, 1) := dk_46 (dk_at dksX1_daresIn_0 5 rfl rfl)
theorem dX1_daresIn_6 : decode cX1_daresIn 6 = .ok (.aload_n 0, 1) := dk_42 (dk_at dksX1_daresIn_0 6 rfl rfl)
theorem dX1_daresIn_7 : decode cX1_daresIn 7 = .ok (.getfield 7, 3) := dk_180 0 7 (dk_at dksX1_daresIn_0 7 rfl rfl)
theorem dX1_daresIn_10 : decode cX1_daresIn 10 = .ok (.iload_n 1, 1) := dk_27 (dk_at dksX1_daresIn_0 10 rfl rfl)
theorem dX1_daresIn_11 : decode cX1_daresIn 11 = .ok (.bipush 9, 2) := dk_16 9 (dk_at dksX1_daresIn_0 11 rfl rfl)
theorem dX1_daresIn_13 : decode cX1_daresIn 13 = .ok (.iadd, 1) := dk_96 (dk_at dksX1_daresIn_0 13 rfl rfl)
theorem dX1_daresIn_14 : decode cX1_daresIn 14 = .ok (.iload_n 2, 1) := dk_28 (dk_at dksX1_daresIn_0 14 rfl rfl)
theorem dX1_daresIn_15 : decode cX1_daresIn 15 = .ok (.iadd, 1) := dk_96 (dk_at dksX1_daresIn_0 15 rfl rfl)
theorem dX1_daresIn_16 : decode cX1_daresIn 16 = .ok (.iaload, 1) := dk_46 (dk_at dksX1_daresIn_0 16 rfl rfl)
theorem dX1_daresIn_17 : decode cX1_daresIn 17 = .ok (.aload_n 0, 1) := dk_42 (dk_at dksX1_daresIn_0 17 rfl rfl)
theorem dX1_daresIn_18 : decode cX1_daresIn 18 = .ok (.getfield 7, 3) := dk_180 0 7 (dk_at dksX1_daresIn_0 18 rfl rfl)
theorem dX1_daresIn_21 : decode cX1_daresIn 21 = .ok (.iload_n 1, 1) := dk_27 (dk_at dksX1_daresIn_0 21 rfl rfl)
theorem dX1_daresIn_22 : decode cX1_daresIn 22 = .ok (.iconst 1, 1) := dk_4 (dk_at dksX1_daresIn_0 22 rfl rfl)
theorem dX1_daresIn_23 : decode cX1_daresIn 23 = .ok (.iadd, 1) := dk_96 (dk_at dksX1_daresIn_0 23 rfl rfl)
theorem dX1_daresIn_24 : decode cX1_daresIn 24 = .ok (.iaload, 1) := dk_46 (dk_at dksX1_daresIn_1 0 rfl rfl)
theorem dX1_daresIn_25 : decode cX1_daresIn 25 = .ok (.aload_n 0, 1) := dk_42 (dk_at dksX1_daresIn_1 1 rfl rfl)
theorem dX1_daresIn_26 : decode cX1_daresIn 26 = .ok (.iload_n 1, 1) := dk_27 (dk_at dksX1_daresIn_1 2 rfl rfl)
theorem dX1_daresIn_27 : decode cX1_daresIn 27 = .ok (.iload_n 2, 1) := dk_28 (dk_at dksX1_daresIn_1 3 rfl rfl)
theorem dX1_daresIn_28 : decode cX1_daresIn 28 = .ok (.invokevirtual 142, 3) := dk_182 0 142 (dk_at dksX1_daresIn_1 4 rfl rfl)
theorem dX1_daresIn_31 : decode cX1_daresIn 31 = .ok (.invokestatic 145, 3) := dk_184 0 145 (dk_at dksX1_daresIn_1 7 rfl rfl)
theorem dX1_daresIn_34 : decode cX1_daresIn 34 = .ok (.ireturn, 1) := dk_172 (dk_at dksX1_daresIn_1 10 rfl rfl)
abbrev cX1_farOf : ByteArray := prog_10_method_32_code
def yX1_farOf : MethodName := ⟨RX1, "farOf", "(II)I"⟩
def dkwX1_farOf_0 : List UInt8 := [42, 180, 0, 7, 27, 6, 96, 28, 96, 46, 42, 180, 0, 7, 27, 5, 96, 46, 184, 0, 139, 172]
abbrev dktX1_farOf_0 : List UInt8 := dkwX1_farOf_0 ++ []
theorem dksX1_farOf_0 : cX1_farOf.data.toList.drop 0 = dktX1_farOf_0 := by decide +kernel
theorem dX1_farOf_0 : decode cX1_farOf 0 = .ok (.aload_n 0, 1) := dk_42 (dk_at dksX1_farOf_0 0 rfl rfl)
theorem dX1_farOf_1 : decode cX1_farOf 1 = .ok (.getfield 7, 3) := dk_180 0 7 (dk_at dksX1_farOf_0 1 rfl rfl)
theorem dX1_farOf_4 : decode cX1_farOf 4 = .ok (.iload_n 1, 1) := dk_27 (dk_at dksX1_farOf_0 4 rfl rfl)
theorem dX1_farOf_5 : decode cX1_farOf 5 = .ok (.iconst 3, 1) := dk_6 (dk_at dksX1_farOf_0 5 rfl rfl)
theorem dX1_farOf_6 : decode cX1_farOf 6 = .ok (.iadd, 1) := dk_96 (dk_at dksX1_farOf_0 6 rfl rfl)
theorem dX1_farOf_7 : decode cX1_farOf 7 = .ok (.iload_n 2, 1) := dk_28 (dk_at dksX1_farOf_0 7 rfl rfl)
theorem dX1_farOf_8 : decode cX1_farOf 8 = .ok (.iadd, 1) := dk_96 (dk_at dksX1_farOf_0 8 rfl rfl)
theorem dX1_farOf_9 : decode cX1_farOf 9 = .ok (.iaload, 1) := dk_46 (dk_at dksX1_farOf_0 9 rfl rfl)
theorem dX1_farOf_10 : decode cX1_farOf 10 = .ok (.aload_n 0, 1) := dk_42 (dk_at dksX1_farOf_0 10 rfl rfl)
theorem dX1_farOf_11 : decode cX1_farOf 11 = .ok (.getfield 7, 3) := dk_180 0 7 (dk_at dksX1_farOf_0 11 rfl rfl)
theorem dX1_farOf_14 : decode cX1_farOf 14 = .ok (.iload_n 1, 1) := dk_27 (dk_at dksX1_farOf_0 14 rfl rfl)
theorem dX1_farOf_15 : decode cX1_farOf 15 = .ok (.iconst 2, 1) := dk_5 (dk_at dksX1_farOf_0 15 rfl rfl)
theorem dX1_farOf_16 : decode cX1_farOf 16 = .ok (.iadd, 1) := dk_96 (dk_at dksX1_farOf_0 16 rfl rfl)
theorem dX1_farOf_17 : decode cX1_farOf 17 = .ok (.iaload, 1) := dk_46 (dk_at dksX1_farOf_0 17 rfl rfl)
theorem dX1_farOf_18 : decode cX1_farOf 18 = .ok (.invokestatic 139, 3) := dk_184 0 139 (dk_at dksX1_farOf_0 18 rfl rfl)
theorem dX1_farOf_21 : decode cX1_farOf 21 = .ok (.ireturn, 1) := dk_172 (dk_at dksX1_farOf_0 21 rfl rfl)
abbrev cX1_apart : ByteArray := prog_10_method_30_code
def yX1_apart : MethodName := ⟨RX1, "apart", "(II)I"⟩
def dkwX1_apart_0 : List UInt8 := [26, 27, 164, 0, 9, 26, 27, 100, 167, 0, 6, 27, 26, 100, 172]
abbrev dktX1_apart_0 : List UInt8 := dkwX1_apart_0 ++ []
theorem dksX1_apart_0 : cX1_apart.data.toList.drop 0 = dktX1_apart_0 := by decide +kernel
theorem dX1_apart_0 : decode cX1_apart 0 = .ok (.iload_n 0, 1) := dk_26 (dk_at dksX1_apart_0 0 rfl rfl)
theorem dX1_apart_1 : decode cX1_apart 1 = .ok (.iload_n 1, 1) := dk_27 (dk_at dksX1_apart_0 1 rfl rfl)
theorem dX1_apart_2 : decode cX1_apart 2 = .ok (.if_icmp .le 9, 3) := dk_164 0 9 (dk_at dksX1_apart_0 2 rfl rfl)
theorem dX1_apart_5 : decode cX1_apart 5 = .ok (.iload_n 0, 1) := dk_26 (dk_at dksX1_apart_0 5 rfl rfl)
theorem dX1_apart_6 : decode cX1_apart 6 = .ok (.iload_n 1, 1) := dk_27 (dk_at dksX1_apart_0 6 rfl rfl)
theorem dX1_apart_7 : decode cX1_apart 7 = .ok (.isub, 1) := dk_100 (dk_at dksX1_apart_0 7 rfl rfl)
theorem dX1_apart_8 : decode cX1_apart 8 = .ok (.goto 6, 3) := dk_167 0 6 (dk_at dksX1_apart_0 8 rfl rfl)
theorem dX1_apart_11 : decode cX1_apart 11 = .ok (.iload_n 1, 1) := dk_27 (dk_at dksX1_apart_0 11 rfl rfl)
theorem dX1_apart_12 : decode cX1_apart 12 = .ok (.iload_n 0, 1) := dk_26 (dk_at dksX1_apart_0 12 rfl rfl)
theorem dX1_apart_13 : decode cX1_apart 13 = .ok (.isub, 1) := dk_100 (dk_at dksX1_apart_0 13 rfl rfl)
theorem dX1_apart_14 : decode cX1_apart 14 = .ok (.ireturn, 1) := dk_172 (dk_at dksX1_apart_0 14 rfl rfl)
abbrev cX1_daresBy : ByteArray := prog_10_method_31_code
def yX1_daresBy : MethodName := ⟨RX1, "daresBy", "(IIII)I"⟩
def dkwX1_daresBy_4 : List UInt8 := [172]
abbrev dktX1_daresBy_4 : List UInt8 := dkwX1_daresBy_4 ++ []
def dkwX1_daresBy_3 : List UInt8 := [167, 0, 4, 6, 96, 172, 21, 4, 16, 10, 162, 0, 11, 16, 10, 21, 4, 100, 167, 0, 4, 3, 172, 27]
abbrev dktX1_daresBy_3 : List UInt8 := dkwX1_daresBy_3 ++ dktX1_daresBy_4
def dkwX1_daresBy_2 : List UInt8 := [28, 5, 112, 154, 0, 9, 5, 27, 104, 167, 0, 4, 27, 172, 21, 4, 172, 27, 29, 6, 162, 0, 7, 29]
abbrev dktX1_daresBy_2 : List UInt8 := dkwX1_daresBy_2 ++ dktX1_daresBy_3
def dkwX1_daresBy_1 : List UInt8 := [170, 0, 0, 0, 0, 0, 82, 0, 0, 0, 1, 0, 0, 0, 5, 0, 0, 0, 35, 0, 0, 0, 49, 0, 0, 0, 82, 0, 0, 0, 52, 0, 0, 0, 65]
abbrev dktX1_daresBy_1 : List UInt8 := dkwX1_daresBy_1 ++ dktX1_daresBy_2
def dkwX1_daresBy_0 : List UInt8 := [27, 8, 162, 0, 7, 3, 167, 0, 4, 27, 54, 4, 26]
abbrev dktX1_daresBy_0 : List UInt8 := dkwX1_daresBy_0 ++ dktX1_daresBy_1
theorem dksX1_daresBy_0 : cX1_daresBy.data.toList.drop 0 = dktX1_daresBy_0 := by decide +kernel
theorem dksX1_daresBy_1 : cX1_daresBy.data.toList.drop 13 = dktX1_daresBy_1 := dk_seg dksX1_daresBy_0 13 rfl rfl
theorem dksX1_daresBy_2 : cX1_daresBy.data.toList.drop 48 = dktX1_daresBy_2 := dk_seg dksX1_daresBy_1 35 rfl rfl
theorem dksX1_daresBy_3 : cX1_daresBy.data.toList.drop 72 = dktX1_daresBy_3 := dk_seg dksX1_daresBy_2 24 rfl rfl
theorem dksX1_daresBy_4 : cX1_daresBy.data.toList.drop 96 = dktX1_daresBy_4 := dk_seg dksX1_daresBy_3 24 rfl rfl
theorem dX1_daresBy_0 : decode cX1_daresBy 0 = .ok (.iload_n 1, 1) := dk_27 (dk_at dksX1_daresBy_0 0 rfl rfl)
theorem dX1_daresBy_1 : decode cX1_daresBy 1 = .ok (.iconst 5, 1) := dk_8 (dk_at dksX1_daresBy_0 1 rfl rfl)
theorem dX1_daresBy_2 : decode cX1_daresBy 2 = .ok (.if_icmp .ge 7, 3) := dk_162 0 7 (dk_at dksX1_daresBy_0 2 rfl rfl)
theorem dX1_daresBy_5 : decode cX1_daresBy 5 = .ok (.iconst 0, 1) := dk_3 (dk_at dksX1_daresBy_0 5 rfl rfl)
theorem dX1_daresBy_6 : decode cX1_daresBy 6 = .ok (.goto 4, 3) := dk_167 0 4 (dk_at dksX1_daresBy_0 6 rfl rfl)
theorem dX1_daresBy_9 : decode cX1_daresBy 9 = .ok (.iload_n 1, 1) := dk_27 (dk_at dksX1_daresBy_0 9 rfl rfl)
theorem dX1_daresBy_10 : decode cX1_daresBy 10 = .ok (.istore 4, 2) := dk_54 4 (dk_at dksX1_daresBy_0 10 rfl rfl)
theorem dX1_daresBy_12 : decode cX1_daresBy 12 = .ok (.iload_n 0, 1) := dk_26 (dk_at dksX1_daresBy_0 12 rfl rfl)
theorem dX1_daresBy_13 : decode cX1_daresBy 13 = .ok (.tableswitch 82 1 5 #[35, 49, 82, 52, 65], 35) := by decide +kernel
theorem dX1_daresBy_48 : decode cX1_daresBy 48 = .ok (.iload_n 2, 1) := dk_28 (dk_at dksX1_daresBy_2 0 rfl rfl)
theorem dX1_daresBy_49 : decode cX1_daresBy 49 = .ok (.iconst 2, 1) := dk_5 (dk_at dksX1_daresBy_2 1 rfl rfl)
theorem dX1_daresBy_50 : decode cX1_daresBy 50 = .ok (.irem, 1) := dk_112 (dk_at dksX1_daresBy_2 2 rfl rfl)
theorem dX1_daresBy_51 : decode cX1_daresBy 51 = .ok (.ifCond .ne 9, 3) := dk_154 0 9 (dk_at dksX1_daresBy_2 3 rfl rfl)
theorem dX1_daresBy_54 : decode cX1_daresBy 54 = .ok (.iconst 2, 1) := dk_5 (dk_at dksX1_daresBy_2 6 rfl rfl)
theorem dX1_daresBy_55 : decode cX1_daresBy 55 = .ok (.iload_n 1, 1) := dk_27 (dk_at dksX1_daresBy_2 7 rfl rfl)
theorem dX1_daresBy_56 : decode cX1_daresBy 56 = .ok (.imul, 1) := dk_104 (dk_at dksX1_daresBy_2 8 rfl rfl)
theorem dX1_daresBy_57 : decode cX1_daresBy 57 = .ok (.goto 4, 3) := dk_167 0 4 (dk_at dksX1_daresBy_2 9 rfl rfl)
theorem dX1_daresBy_60 : decode cX1_daresBy 60 = .ok (.iload_n 1, 1) := dk_27 (dk_at dksX1_daresBy_2 12 rfl rfl)
theorem dX1_daresBy_61 : decode cX1_daresBy 61 = .ok (.ireturn, 1) := dk_172 (dk_at dksX1_daresBy_2 13 rfl rfl)
theorem dX1_daresBy_62 : decode cX1_daresBy 62 = .ok (.iload 4, 2) := dk_21 4 (dk_at dksX1_daresBy_2 14 rfl rfl)
theorem dX1_daresBy_64 : decode cX1_daresBy 64 = .ok (.ireturn, 1) := dk_172 (dk_at dksX1_daresBy_2 16 rfl rfl)
theorem dX1_daresBy_65 : decode cX1_daresBy 65 = .ok (.iload_n 1, 1) := dk_27 (dk_at dksX1_daresBy_2 17 rfl rfl)
theorem dX1_daresBy_66 : decode cX1_daresBy 66 = .ok (.iload_n 3, 1) := dk_29 (dk_at dksX1_daresBy_2 18 rfl rfl)
theorem dX1_daresBy_67 : decode cX1_daresBy 67 = .ok (.iconst 3, 1) := dk_6 (dk_at dksX1_daresBy_2 19 rfl rfl)
theorem dX1_daresBy_68 : decode cX1_daresBy 68 = .ok (.if_icmp .ge 7, 3) := dk_162 0 7 (dk_at dksX1_daresBy_2 20 rfl rfl)
theorem dX1_daresBy_71 : decode cX1_daresBy 71 = .ok (.iload_n 3, 1) := dk_29 (dk_at dksX1_daresBy_2 23 rfl rfl)
theorem dX1_daresBy_72 : decode cX1_daresBy 72 = .ok (.goto 4, 3) := dk_167 0 4 (dk_at dksX1_daresBy_3 0 rfl rfl)
theorem dX1_daresBy_75 : decode cX1_daresBy 75 = .ok (.iconst 3, 1) := dk_6 (dk_at dksX1_daresBy_3 3 rfl rfl)
theorem dX1_daresBy_76 : decode cX1_daresBy 76 = .ok (.iadd, 1) := dk_96 (dk_at dksX1_daresBy_3 4 rfl rfl)
theorem dX1_daresBy_77 : decode cX1_daresBy 77 = .ok (.ireturn, 1) := dk_172 (dk_at dksX1_daresBy_3 5 rfl rfl)
theorem dX1_daresBy_78 : decode cX1_daresBy 78 = .ok (.iload 4, 2) := dk_21 4 (dk_at dksX1_daresBy_3 6 rfl rfl)
theorem dX1_daresBy_80 : decode cX1_daresBy 80 = .ok (.bipush 10, 2) := dk_16 10 (dk_at dksX1_daresBy_3 8 rfl rfl)
theorem dX1_daresBy_82 : decode cX1_daresBy 82 = .ok (.if_icmp .ge 11, 3) := dk_162 0 11 (dk_at dksX1_daresBy_3 10 rfl rfl)
theorem dX1_daresBy_85 : decode cX1_daresBy 85 = .ok (.bipush 10, 2) := dk_16 10 (dk_at dksX1_daresBy_3 13 rfl rfl)
theorem dX1_daresBy_87 : decode cX1_daresBy 87 = .ok (.iload 4, 2) := dk_21 4 (dk_at dksX1_daresBy_3 15 rfl rfl)
theorem dX1_daresBy_89 : decode cX1_daresBy 89 = .ok (.isub, 1) := dk_100 (dk_at dksX1_daresBy_3 17 rfl rfl)
theorem dX1_daresBy_90 : decode cX1_daresBy 90 = .ok (.goto 4, 3) := dk_167 0 4 (dk_at dksX1_daresBy_3 18 rfl rfl)
theorem dX1_daresBy_93 : decode cX1_daresBy 93 = .ok (.iconst 0, 1) := dk_3 (dk_at dksX1_daresBy_3 21 rfl rfl)
theorem dX1_daresBy_94 : decode cX1_daresBy 94 = .ok (.ireturn, 1) := dk_172 (dk_at dksX1_daresBy_3 22 rfl rfl)
theorem dX1_daresBy_95 : decode cX1_daresBy 95 = .ok (.iload_n 1, 1) := dk_27 (dk_at dksX1_daresBy_3 23 rfl rfl)
theorem dX1_daresBy_96 : decode cX1_daresBy 96 = .ok (.ireturn, 1) := dk_172 (dk_at dksX1_daresBy_4 0 rfl rfl)
abbrev cX1_mark : ByteArray := prog_10_method_41_code
def yX1_mark : MethodName := ⟨RX1, "mark", "(II)I"⟩
def dkwX1_mark_5 : List UInt8 := [5, 29, 3, 3, 184, 0, 145, 172]
abbrev dktX1_mark_5 : List UInt8 := dkwX1_mark_5 ++ []
def dkwX1_mark_4 : List UInt8 := [167, 0, 4, 3, 172, 42, 29, 182, 0, 171, 172, 7, 3, 3, 42, 3, 27, 182, 0, 142, 184, 0, 145, 172]
abbrev dktX1_mark_4 : List UInt8 := dkwX1_mark_4 ++ dktX1_mark_5
def dkwX1_mark_3 : List UInt8 := [4, 29, 42, 180, 0, 7, 4, 46, 4, 96, 3, 184, 0, 145, 172, 29, 8, 162, 0, 9, 8, 29, 100]
abbrev dktX1_mark_3 : List UInt8 := dkwX1_mark_3 ++ dktX1_mark_4
def dkwX1_mark_2 : List UInt8 := [170, 0, 0, 0, 0, 0, 0, 79, 0, 0, 0, 1, 0, 0, 0, 4, 0, 0, 0, 32, 0, 0, 0, 47, 0, 0, 0, 60, 0, 0, 0, 66]
abbrev dktX1_mark_2 : List UInt8 := dkwX1_mark_2 ++ dktX1_mark_3
def dkwX1_mark_1 : List UInt8 := [28, 182, 0, 168, 154, 0, 9, 42, 6, 182, 0, 69, 172, 42, 180, 0, 7, 16, 9, 27, 96, 46, 62, 28]
abbrev dktX1_mark_1 : List UInt8 := dkwX1_mark_1 ++ dktX1_mark_2
def dkwX1_mark_0 : List UInt8 := [42, 27, 182, 0, 162, 153, 0, 15, 28, 133, 10, 20, 0, 57, 184, 0, 59, 154, 0, 5, 2, 172, 42, 27]
abbrev dktX1_mark_0 : List UInt8 := dkwX1_mark_0 ++ dktX1_mark_1
theorem dksX1_mark_0 : cX1_mark.data.toList.drop 0 = dktX1_mark_0 := by decide +kernel
theorem dksX1_mark_1 : cX1_mark.data.toList.drop 24 = dktX1_mark_1 := dk_seg dksX1_mark_0 24 rfl rfl
theorem dksX1_mark_2 : cX1_mark.data.toList.drop 48 = dktX1_mark_2 := dk_seg dksX1_mark_1 24 rfl rfl
theorem dksX1_mark_3 : cX1_mark.data.toList.drop 80 = dktX1_mark_3 := dk_seg dksX1_mark_2 32 rfl rfl
theorem dksX1_mark_4 : cX1_mark.data.toList.drop 103 = dktX1_mark_4 := dk_seg dksX1_mark_3 23 rfl rfl
theorem dksX1_mark_5 : cX1_mark.data.toList.drop 127 = dktX1_mark_5 := dk_seg dksX1_mark_4 24 rfl rfl
theorem dX1_mark_0 : decode cX1_mark 0 = .ok (.aload_n 0, 1) := dk_42 (dk_at dksX1_mark_0 0 rfl rfl)
theorem dX1_mark_1 : decode cX1_mark 1 = .ok (.iload_n 1, 1) := dk_27 (dk_at dksX1_mark_0 1 rfl rfl)
theorem dX1_mark_2 : decode cX1_mark 2 = .ok (.invokevirtual 162, 3) := dk_182 0 162 (dk_at dksX1_mark_0 2 rfl rfl)
theorem dX1_mark_5 : decode cX1_mark 5 = .ok (.ifCond .eq 15, 3) := dk_153 0 15 (dk_at dksX1_mark_0 5 rfl rfl)
theorem dX1_mark_8 : decode cX1_mark 8 = .ok (.iload_n 2, 1) := dk_28 (dk_at dksX1_mark_0 8 rfl rfl)
theorem dX1_mark_9 : decode cX1_mark 9 = .ok (.i2l, 1) := dk_133 (dk_at dksX1_mark_0 9 rfl rfl)
theorem dX1_mark_10 : decode cX1_mark 10 = .ok (.lconst 1, 1) := dk_10 (dk_at dksX1_mark_0 10 rfl rfl)
theorem dX1_mark_11 : decode cX1_mark 11 = .ok (.ldc2_w 57, 3) := dk_20 0 57 (dk_at dksX1_mark_0 11 rfl rfl)
theorem dX1_mark_14 : decode cX1_mark 14 = .ok (.invokestatic 59, 3) := dk_184 0 59 (dk_at dksX1_mark_0 14 rfl rfl)
theorem dX1_mark_17 : decode cX1_mark 17 = .ok (.ifCond .ne 5, 3) := dk_154 0 5 (dk_at dksX1_mark_0 17 rfl rfl)
theorem dX1_mark_20 : decode cX1_mark 20 = .ok (.iconst (-1), 1) := dk_2 (dk_at dksX1_mark_0 20 rfl rfl)
theorem dX1_mark_21 : decode cX1_mark 21 = .ok (.ireturn, 1) := dk_172 (dk_at dksX1_mark_0 21 rfl rfl)
theorem dX1_mark_22 : decode cX1_mark 22 = .ok (.aload_n 0, 1) := dk_42 (dk_at dksX1_mark_0 22 rfl rfl)
theorem dX1_mark_23 : decode cX1_mark 23 = .ok (.iload_n 1, 1) := dk_27 (dk_at dksX1_mark_0 23 rfl rfl)
theorem dX1_mark_24 : decode cX1_mark 24 = .ok (.iload_n 2, 1) := dk_28 (dk_at dksX1_mark_1 0 rfl rfl)
theorem dX1_mark_25 : decode cX1_mark 25 = .ok (.invokevirtual 168, 3) := dk_182 0 168 (dk_at dksX1_mark_1 1 rfl rfl)
theorem dX1_mark_28 : decode cX1_mark 28 = .ok (.ifCond .ne 9, 3) := dk_154 0 9 (dk_at dksX1_mark_1 4 rfl rfl)
theorem dX1_mark_31 : decode cX1_mark 31 = .ok (.aload_n 0, 1) := dk_42 (dk_at dksX1_mark_1 7 rfl rfl)
theorem dX1_mark_32 : decode cX1_mark 32 = .ok (.iconst 3, 1) := dk_6 (dk_at dksX1_mark_1 8 rfl rfl)
theorem dX1_mark_33 : decode cX1_mark 33 = .ok (.invokevirtual 69, 3) := dk_182 0 69 (dk_at dksX1_mark_1 9 rfl rfl)
theorem dX1_mark_36 : decode cX1_mark 36 = .ok (.ireturn, 1) := dk_172 (dk_at dksX1_mark_1 12 rfl rfl)
theorem dX1_mark_37 : decode cX1_mark 37 = .ok (.aload_n 0, 1) := dk_42 (dk_at dksX1_mark_1 13 rfl rfl)
theorem dX1_mark_38 : decode cX1_mark 38 = .ok (.getfield 7, 3) := dk_180 0 7 (dk_at dksX1_mark_1 14 rfl rfl)
theorem dX1_mark_41 : decode cX1_mark 41 = .ok (.bipush 9, 2) := dk_16 9 (dk_at dksX1_mark_1 17 rfl rfl)
theorem dX1_mark_43 : decode cX1_mark 43 = .ok (.iload_n 1, 1) := dk_27 (dk_at dksX1_mark_1 19 rfl rfl)
theorem dX1_mark_44 : decode cX1_mark 44 = .ok (.iadd, 1) := dk_96 (dk_at dksX1_mark_1 20 rfl rfl)
theorem dX1_mark_45 : decode cX1_mark 45 = .ok (.iaload, 1) := dk_46 (dk_at dksX1_mark_1 21 rfl rfl)
theorem dX1_mark_46 : decode cX1_mark 46 = .ok (.istore_n 3, 1) := dk_62 (dk_at dksX1_mark_1 22 rfl rfl)
theorem dX1_mark_47 : decode cX1_mark 47 = .ok (.iload_n 2, 1) := dk_28 (dk_at dksX1_mark_1 23 rfl rfl)
theorem dX1_mark_48 : decode cX1_mark 48 = .ok (.tableswitch 79 1 4 #[32, 47, 60, 66], 32) := by decide +kernel
theorem dX1_mark_80 : decode cX1_mark 80 = .ok (.iconst 1, 1) := dk_4 (dk_at dksX1_mark_3 0 rfl rfl)
theorem dX1_mark_81 : decode cX1_mark 81 = .ok (.iload_n 3, 1) := dk_29 (dk_at dksX1_mark_3 1 rfl rfl)
theorem dX1_mark_82 : decode cX1_mark 82 = .ok (.aload_n 0, 1) := dk_42 (dk_at dksX1_mark_3 2 rfl rfl)
theorem dX1_mark_83 : decode cX1_mark 83 = .ok (.getfield 7, 3) := dk_180 0 7 (dk_at dksX1_mark_3 3 rfl rfl)
theorem dX1_mark_86 : decode cX1_mark 86 = .ok (.iconst 1, 1) := dk_4 (dk_at dksX1_mark_3 6 rfl rfl)
theorem dX1_mark_87 : decode cX1_mark 87 = .ok (.iaload, 1) := dk_46 (dk_at dksX1_mark_3 7 rfl rfl)
theorem dX1_mark_88 : decode cX1_mark 88 = .ok (.iconst 1, 1) := dk_4 (dk_at dksX1_mark_3 8 rfl rfl)
theorem dX1_mark_89 : decode cX1_mark 89 = .ok (.iadd, 1) := dk_96 (dk_at dksX1_mark_3 9 rfl rfl)
theorem dX1_mark_90 : decode cX1_mark 90 = .ok (.iconst 0, 1) := dk_3 (dk_at dksX1_mark_3 10 rfl rfl)
theorem dX1_mark_91 : decode cX1_mark 91 = .ok (.invokestatic 145, 3) := dk_184 0 145 (dk_at dksX1_mark_3 11 rfl rfl)
theorem dX1_mark_94 : decode cX1_mark 94 = .ok (.ireturn, 1) := dk_172 (dk_at dksX1_mark_3 14 rfl rfl)
theorem dX1_mark_95 : decode cX1_mark 95 = .ok (.iload_n 3, 1) := dk_29 (dk_at dksX1_mark_3 15 rfl rfl)
theorem dX1_mark_96 : decode cX1_mark 96 = .ok (.iconst 5, 1) := dk_8 (dk_at dksX1_mark_3 16 rfl rfl)
theorem dX1_mark_97 : decode cX1_mark 97 = .ok (.if_icmp .ge 9, 3) := dk_162 0 9 (dk_at dksX1_mark_3 17 rfl rfl)
theorem dX1_mark_100 : decode cX1_mark 100 = .ok (.iconst 5, 1) := dk_8 (dk_at dksX1_mark_3 20 rfl rfl)
theorem dX1_mark_101 : decode cX1_mark 101 = .ok (.iload_n 3, 1) := dk_29 (dk_at dksX1_mark_3 21 rfl rfl)
theorem dX1_mark_102 : decode cX1_mark 102 = .ok (.isub, 1) := dk_100 (dk_at dksX1_mark_3 22 rfl rfl)
theorem dX1_mark_103 : decode cX1_mark 103 = .ok (.goto 4, 3) := dk_167 0 4 (dk_at dksX1_mark_4 0 rfl rfl)
theorem dX1_mark_106 : decode cX1_mark 106 = .ok (.iconst 0, 1) := dk_3 (dk_at dksX1_mark_4 3 rfl rfl)
theorem dX1_mark_107 : decode cX1_mark 107 = .ok (.ireturn, 1) := dk_172 (dk_at dksX1_mark_4 4 rfl rfl)
theorem dX1_mark_108 : decode cX1_mark 108 = .ok (.aload_n 0, 1) := dk_42 (dk_at dksX1_mark_4 5 rfl rfl)
theorem dX1_mark_109 : decode cX1_mark 109 = .ok (.iload_n 3, 1) := dk_29 (dk_at dksX1_mark_4 6 rfl rfl)
theorem dX1_mark_110 : decode cX1_mark 110 = .ok (.invokevirtual 171, 3) := dk_182 0 171 (dk_at dksX1_mark_4 7 rfl rfl)
theorem dX1_mark_113 : decode cX1_mark 113 = .ok (.ireturn, 1) := dk_172 (dk_at dksX1_mark_4 10 rfl rfl)
theorem dX1_mark_114 : decode cX1_mark 114 = .ok (.iconst 4, 1) := dk_7 (dk_at dksX1_mark_4 11 rfl rfl)
theorem dX1_mark_115 : decode cX1_mark 115 = .ok (.iconst 0, 1) := dk_3 (dk_at dksX1_mark_4 12 rfl rfl)
theorem dX1_mark_116 : decode cX1_mark 116 = .ok (.iconst 0, 1) := dk_3 (dk_at dksX1_mark_4 13 rfl rfl)
theorem dX1_mark_117 : decode cX1_mark 117 = .ok (.aload_n 0, 1) := dk_42 (dk_at dksX1_mark_4 14 rfl rfl)
theorem dX1_mark_118 : decode cX1_mark 118 = .ok (.iconst 0, 1) := dk_3 (dk_at dksX1_mark_4 15 rfl rfl)
theorem dX1_mark_119 : decode cX1_mark 119 = .ok (.iload_n 1, 1) := dk_27 (dk_at dksX1_mark_4 16 rfl rfl)
theorem dX1_mark_120 : decode cX1_mark 120 = .ok (.invokevirtual 142, 3) := dk_182 0 142 (dk_at dksX1_mark_4 17 rfl rfl)
theorem dX1_mark_123 : decode cX1_mark 123 = .ok (.invokestatic 145, 3) := dk_184 0 145 (dk_at dksX1_mark_4 20 rfl rfl)
theorem dX1_mark_126 : decode cX1_mark 126 = .ok (.ireturn, 1) := dk_172 (dk_at dksX1_mark_4 23 rfl rfl)
theorem dX1_mark_127 : decode cX1_mark 127 = .ok (.iconst 2, 1) := dk_5 (dk_at dksX1_mark_5 0 rfl rfl)
theorem dX1_mark_128 : decode cX1_mark 128 = .ok (.iload_n 3, 1) := dk_29 (dk_at dksX1_mark_5 1 rfl rfl)
theorem dX1_mark_129 : decode cX1_mark 129 = .ok (.iconst 0, 1) := dk_3 (dk_at dksX1_mark_5 2 rfl rfl)
theorem dX1_mark_130 : decode cX1_mark 130 = .ok (.iconst 0, 1) := dk_3 (dk_at dksX1_mark_5 3 rfl rfl)
theorem dX1_mark_131 : decode cX1_mark 131 = .ok (.invokestatic 145, 3) := dk_184 0 145 (dk_at dksX1_mark_5 4 rfl rfl)
theorem dX1_mark_134 : decode cX1_mark 134 = .ok (.ireturn, 1) := dk_172 (dk_at dksX1_mark_5 7 rfl rfl)
abbrev cX1_isOf : ByteArray := prog_10_method_39_code
def yX1_isOf : MethodName := ⟨RX1, "isOf", "(II)Z"⟩
def dkwX1_isOf_1 : List UInt8 := [160, 0, 12, 29, 8, 160, 0, 7, 4, 167, 0, 4, 3, 172]
abbrev dktX1_isOf_1 : List UInt8 := dkwX1_isOf_1 ++ []
def dkwX1_isOf_0 : List UInt8 := [42, 180, 0, 13, 27, 46, 62, 29, 28, 159, 0, 23, 28, 6, 160, 0, 8, 29, 7, 159, 0, 13, 28, 5]
abbrev dktX1_isOf_0 : List UInt8 := dkwX1_isOf_0 ++ dktX1_isOf_1
theorem dksX1_isOf_0 : cX1_isOf.data.toList.drop 0 = dktX1_isOf_0 := by decide +kernel
theorem dksX1_isOf_1 : cX1_isOf.data.toList.drop 24 = dktX1_isOf_1 := dk_seg dksX1_isOf_0 24 rfl rfl
theorem dX1_isOf_0 : decode cX1_isOf 0 = .ok (.aload_n 0, 1) := dk_42 (dk_at dksX1_isOf_0 0 rfl rfl)
theorem dX1_isOf_1 : decode cX1_isOf 1 = .ok (.getfield 13, 3) := dk_180 0 13 (dk_at dksX1_isOf_0 1 rfl rfl)
theorem dX1_isOf_4 : decode cX1_isOf 4 = .ok (.iload_n 1, 1) := dk_27 (dk_at dksX1_isOf_0 4 rfl rfl)
theorem dX1_isOf_5 : decode cX1_isOf 5 = .ok (.iaload, 1) := dk_46 (dk_at dksX1_isOf_0 5 rfl rfl)
theorem dX1_isOf_6 : decode cX1_isOf 6 = .ok (.istore_n 3, 1) := dk_62 (dk_at dksX1_isOf_0 6 rfl rfl)
theorem dX1_isOf_7 : decode cX1_isOf 7 = .ok (.iload_n 3, 1) := dk_29 (dk_at dksX1_isOf_0 7 rfl rfl)
theorem dX1_isOf_8 : decode cX1_isOf 8 = .ok (.iload_n 2, 1) := dk_28 (dk_at dksX1_isOf_0 8 rfl rfl)
theorem dX1_isOf_9 : decode cX1_isOf 9 = .ok (.if_icmp .eq 23, 3) := dk_159 0 23 (dk_at dksX1_isOf_0 9 rfl rfl)
theorem dX1_isOf_12 : decode cX1_isOf 12 = .ok (.iload_n 2, 1) := dk_28 (dk_at dksX1_isOf_0 12 rfl rfl)
theorem dX1_isOf_13 : decode cX1_isOf 13 = .ok (.iconst 3, 1) := dk_6 (dk_at dksX1_isOf_0 13 rfl rfl)
theorem dX1_isOf_14 : decode cX1_isOf 14 = .ok (.if_icmp .ne 8, 3) := dk_160 0 8 (dk_at dksX1_isOf_0 14 rfl rfl)
theorem dX1_isOf_17 : decode cX1_isOf 17 = .ok (.iload_n 3, 1) := dk_29 (dk_at dksX1_isOf_0 17 rfl rfl)
theorem dX1_isOf_18 : decode cX1_isOf 18 = .ok (.iconst 4, 1) := dk_7 (dk_at dksX1_isOf_0 18 rfl rfl)
theorem dX1_isOf_19 : decode cX1_isOf 19 = .ok (.if_icmp .eq 13, 3) := dk_159 0 13 (dk_at dksX1_isOf_0 19 rfl rfl)
theorem dX1_isOf_22 : decode cX1_isOf 22 = .ok (.iload_n 2, 1) := dk_28 (dk_at dksX1_isOf_0 22 rfl rfl)
theorem dX1_isOf_23 : decode cX1_isOf 23 = .ok (.iconst 2, 1) := dk_5 (dk_at dksX1_isOf_0 23 rfl rfl)
theorem dX1_isOf_24 : decode cX1_isOf 24 = .ok (.if_icmp .ne 12, 3) := dk_160 0 12 (dk_at dksX1_isOf_1 0 rfl rfl)
theorem dX1_isOf_27 : decode cX1_isOf 27 = .ok (.iload_n 3, 1) := dk_29 (dk_at dksX1_isOf_1 3 rfl rfl)
theorem dX1_isOf_28 : decode cX1_isOf 28 = .ok (.iconst 5, 1) := dk_8 (dk_at dksX1_isOf_1 4 rfl rfl)
theorem dX1_isOf_29 : decode cX1_isOf 29 = .ok (.if_icmp .ne 7, 3) := dk_160 0 7 (dk_at dksX1_isOf_1 5 rfl rfl)
theorem dX1_isOf_32 : decode cX1_isOf 32 = .ok (.iconst 1, 1) := dk_4 (dk_at dksX1_isOf_1 8 rfl rfl)
theorem dX1_isOf_33 : decode cX1_isOf 33 = .ok (.goto 4, 3) := dk_167 0 4 (dk_at dksX1_isOf_1 9 rfl rfl)
theorem dX1_isOf_36 : decode cX1_isOf 36 = .ok (.iconst 0, 1) := dk_3 (dk_at dksX1_isOf_1 12 rfl rfl)
theorem dX1_isOf_37 : decode cX1_isOf 37 = .ok (.ireturn, 1) := dk_172 (dk_at dksX1_isOf_1 13 rfl rfl)
abbrev cX1_lesserThan : ByteArray := prog_10_method_40_code
def yX1_lesserThan : MethodName := ⟨RX1, "lesserThan", "(I)I"⟩
def dkwX1_lesserThan_1 : List UInt8 := [162, 0, 7, 4, 167, 0, 4, 3, 96, 61, 132, 3, 1, 167, 255, 224, 28, 172]
abbrev dktX1_lesserThan_1 : List UInt8 := dkwX1_lesserThan_1 ++ []
def dkwX1_lesserThan_0 : List UInt8 := [3, 61, 3, 62, 29, 42, 180, 0, 136, 162, 0, 30, 28, 42, 180, 0, 7, 16, 9, 29, 96, 46, 27]
abbrev dktX1_lesserThan_0 : List UInt8 := dkwX1_lesserThan_0 ++ dktX1_lesserThan_1
theorem dksX1_lesserThan_0 : cX1_lesserThan.data.toList.drop 0 = dktX1_lesserThan_0 := by decide +kernel
theorem dksX1_lesserThan_1 : cX1_lesserThan.data.toList.drop 23 = dktX1_lesserThan_1 := dk_seg dksX1_lesserThan_0 23 rfl rfl
theorem dX1_lesserThan_0 : decode cX1_lesserThan 0 = .ok (.iconst 0, 1) := dk_3 (dk_at dksX1_lesserThan_0 0 rfl rfl)
theorem dX1_lesserThan_1 : decode cX1_lesserThan 1 = .ok (.istore_n 2, 1) := dk_61 (dk_at dksX1_lesserThan_0 1 rfl rfl)
theorem dX1_lesserThan_2 : decode cX1_lesserThan 2 = .ok (.iconst 0, 1) := dk_3 (dk_at dksX1_lesserThan_0 2 rfl rfl)
theorem dX1_lesserThan_3 : decode cX1_lesserThan 3 = .ok (.istore_n 3, 1) := dk_62 (dk_at dksX1_lesserThan_0 3 rfl rfl)
theorem dX1_lesserThan_4 : decode cX1_lesserThan 4 = .ok (.iload_n 3, 1) := dk_29 (dk_at dksX1_lesserThan_0 4 rfl rfl)
theorem dX1_lesserThan_5 : decode cX1_lesserThan 5 = .ok (.aload_n 0, 1) := dk_42 (dk_at dksX1_lesserThan_0 5 rfl rfl)
theorem dX1_lesserThan_6 : decode cX1_lesserThan 6 = .ok (.getfield 136, 3) := dk_180 0 136 (dk_at dksX1_lesserThan_0 6 rfl rfl)
theorem dX1_lesserThan_9 : decode cX1_lesserThan 9 = .ok (.if_icmp .ge 30, 3) := dk_162 0 30 (dk_at dksX1_lesserThan_0 9 rfl rfl)
theorem dX1_lesserThan_12 : decode cX1_lesserThan 12 = .ok (.iload_n 2, 1) := dk_28 (dk_at dksX1_lesserThan_0 12 rfl rfl)
theorem dX1_lesserThan_13 : decode cX1_lesserThan 13 = .ok (.aload_n 0, 1) := dk_42 (dk_at dksX1_lesserThan_0 13 rfl rfl)
theorem dX1_lesserThan_14 : decode cX1_lesserThan 14 = .ok (.getfield 7, 3) := dk_180 0 7 (dk_at dksX1_lesserThan_0 14 rfl rfl)
theorem dX1_lesserThan_17 : decode cX1_lesserThan 17 = .ok (.bipush 9, 2) := dk_16 9 (dk_at dksX1_lesserThan_0 17 rfl rfl)
theorem dX1_lesserThan_19 : decode cX1_lesserThan 19 = .ok (.iload_n 3, 1) := dk_29 (dk_at dksX1_lesserThan_0 19 rfl rfl)
theorem dX1_lesserThan_20 : decode cX1_lesserThan 20 = .ok (.iadd, 1) := dk_96 (dk_at dksX1_lesserThan_0 20 rfl rfl)
theorem dX1_lesserThan_21 : decode cX1_lesserThan 21 = .ok (.iaload, 1) := dk_46 (dk_at dksX1_lesserThan_0 21 rfl rfl)
theorem dX1_lesserThan_22 : decode cX1_lesserThan 22 = .ok (.iload_n 1, 1) := dk_27 (dk_at dksX1_lesserThan_0 22 rfl rfl)
theorem dX1_lesserThan_23 : decode cX1_lesserThan 23 = .ok (.if_icmp .ge 7, 3) := dk_162 0 7 (dk_at dksX1_lesserThan_1 0 rfl rfl)
theorem dX1_lesserThan_26 : decode cX1_lesserThan 26 = .ok (.iconst 1, 1) := dk_4 (dk_at dksX1_lesserThan_1 3 rfl rfl)
theorem dX1_lesserThan_27 : decode cX1_lesserThan 27 = .ok (.goto 4, 3) := dk_167 0 4 (dk_at dksX1_lesserThan_1 4 rfl rfl)
theorem dX1_lesserThan_30 : decode cX1_lesserThan 30 = .ok (.iconst 0, 1) := dk_3 (dk_at dksX1_lesserThan_1 7 rfl rfl)
theorem dX1_lesserThan_31 : decode cX1_lesserThan 31 = .ok (.iadd, 1) := dk_96 (dk_at dksX1_lesserThan_1 8 rfl rfl)
theorem dX1_lesserThan_32 : decode cX1_lesserThan 32 = .ok (.istore_n 2, 1) := dk_61 (dk_at dksX1_lesserThan_1 9 rfl rfl)
theorem dX1_lesserThan_33 : decode cX1_lesserThan 33 = .ok (.iinc 3 1, 3) := dk_132 3 1 (dk_at dksX1_lesserThan_1 10 rfl rfl)
theorem dX1_lesserThan_36 : decode cX1_lesserThan 36 = .ok (.goto (-32), 3) := dk_167 255 224 (dk_at dksX1_lesserThan_1 13 rfl rfl)
theorem dX1_lesserThan_39 : decode cX1_lesserThan 39 = .ok (.iload_n 2, 1) := dk_28 (dk_at dksX1_lesserThan_1 16 rfl rfl)
theorem dX1_lesserThan_40 : decode cX1_lesserThan 40 = .ok (.ireturn, 1) := dk_172 (dk_at dksX1_lesserThan_1 17 rfl rfl)
abbrev cX1_night : ByteArray := prog_10_method_43_code
def yX1_night : MethodName := ⟨RX1, "night", "()I"⟩
def dkwX1_night_1 : List UInt8 := [42, 182, 0, 174, 42, 3, 182, 0, 177, 172]
abbrev dktX1_night_1 : List UInt8 := dkwX1_night_1 ++ []
def dkwX1_night_0 : List UInt8 := [42, 180, 0, 136, 154, 0, 6, 16, 252, 172, 42, 180, 0, 7, 3, 46, 16, 40, 160, 0, 6, 16, 254, 172]
abbrev dktX1_night_0 : List UInt8 := dkwX1_night_0 ++ dktX1_night_1
theorem dksX1_night_0 : cX1_night.data.toList.drop 0 = dktX1_night_0 := by decide +kernel
theorem dksX1_night_1 : cX1_night.data.toList.drop 24 = dktX1_night_1 := dk_seg dksX1_night_0 24 rfl rfl
theorem dX1_night_0 : decode cX1_night 0 = .ok (.aload_n 0, 1) := dk_42 (dk_at dksX1_night_0 0 rfl rfl)
theorem dX1_night_1 : decode cX1_night 1 = .ok (.getfield 136, 3) := dk_180 0 136 (dk_at dksX1_night_0 1 rfl rfl)
theorem dX1_night_4 : decode cX1_night 4 = .ok (.ifCond .ne 6, 3) := dk_154 0 6 (dk_at dksX1_night_0 4 rfl rfl)
theorem dX1_night_7 : decode cX1_night 7 = .ok (.bipush (-4), 2) := dk_16 252 (dk_at dksX1_night_0 7 rfl rfl)
theorem dX1_night_9 : decode cX1_night 9 = .ok (.ireturn, 1) := dk_172 (dk_at dksX1_night_0 9 rfl rfl)
theorem dX1_night_10 : decode cX1_night 10 = .ok (.aload_n 0, 1) := dk_42 (dk_at dksX1_night_0 10 rfl rfl)
theorem dX1_night_11 : decode cX1_night 11 = .ok (.getfield 7, 3) := dk_180 0 7 (dk_at dksX1_night_0 11 rfl rfl)
theorem dX1_night_14 : decode cX1_night 14 = .ok (.iconst 0, 1) := dk_3 (dk_at dksX1_night_0 14 rfl rfl)
theorem dX1_night_15 : decode cX1_night 15 = .ok (.iaload, 1) := dk_46 (dk_at dksX1_night_0 15 rfl rfl)
theorem dX1_night_16 : decode cX1_night 16 = .ok (.bipush 40, 2) := dk_16 40 (dk_at dksX1_night_0 16 rfl rfl)
theorem dX1_night_18 : decode cX1_night 18 = .ok (.if_icmp .ne 6, 3) := dk_160 0 6 (dk_at dksX1_night_0 18 rfl rfl)
theorem dX1_night_21 : decode cX1_night 21 = .ok (.bipush (-2), 2) := dk_16 254 (dk_at dksX1_night_0 21 rfl rfl)
theorem dX1_night_23 : decode cX1_night 23 = .ok (.ireturn, 1) := dk_172 (dk_at dksX1_night_0 23 rfl rfl)
theorem dX1_night_24 : decode cX1_night 24 = .ok (.aload_n 0, 1) := dk_42 (dk_at dksX1_night_1 0 rfl rfl)
theorem dX1_night_25 : decode cX1_night 25 = .ok (.invokevirtual 174, 3) := dk_182 0 174 (dk_at dksX1_night_1 1 rfl rfl)
theorem dX1_night_28 : decode cX1_night 28 = .ok (.aload_n 0, 1) := dk_42 (dk_at dksX1_night_1 4 rfl rfl)
theorem dX1_night_29 : decode cX1_night 29 = .ok (.iconst 0, 1) := dk_3 (dk_at dksX1_night_1 5 rfl rfl)
theorem dX1_night_30 : decode cX1_night 30 = .ok (.invokevirtual 177, 3) := dk_182 0 177 (dk_at dksX1_night_1 6 rfl rfl)
theorem dX1_night_33 : decode cX1_night 33 = .ok (.ireturn, 1) := dk_172 (dk_at dksX1_night_1 9 rfl rfl)
abbrev cX1_keepPast : ByteArray := prog_10_method_42_code
def yX1_keepPast : MethodName := ⟨RX1, "keepPast", "()V"⟩
def dkwX1_keepPast_2 : List UInt8 := [4, 96, 79, 177]
abbrev dktX1_keepPast_2 : List UInt8 := dkwX1_keepPast_2 ++ []
def dkwX1_keepPast_1 : List UInt8 := [27, 96, 42, 180, 0, 7, 4, 27, 96, 46, 79, 132, 1, 1, 167, 255, 220, 42, 180, 0, 7, 3, 92, 46]
abbrev dktX1_keepPast_1 : List UInt8 := dkwX1_keepPast_1 ++ dktX1_keepPast_2
def dkwX1_keepPast_0 : List UInt8 := [3, 60, 27, 16, 20, 162, 0, 36, 42, 180, 0, 7, 16, 21, 16, 20, 42, 180, 0, 7, 3, 46, 104, 96]
abbrev dktX1_keepPast_0 : List UInt8 := dkwX1_keepPast_0 ++ dktX1_keepPast_1
theorem dksX1_keepPast_0 : cX1_keepPast.data.toList.drop 0 = dktX1_keepPast_0 := by decide +kernel
theorem dksX1_keepPast_1 : cX1_keepPast.data.toList.drop 24 = dktX1_keepPast_1 := dk_seg dksX1_keepPast_0 24 rfl rfl
theorem dksX1_keepPast_2 : cX1_keepPast.data.toList.drop 48 = dktX1_keepPast_2 := dk_seg dksX1_keepPast_1 24 rfl rfl
theorem dX1_keepPast_0 : decode cX1_keepPast 0 = .ok (.iconst 0, 1) := dk_3 (dk_at dksX1_keepPast_0 0 rfl rfl)
theorem dX1_keepPast_1 : decode cX1_keepPast 1 = .ok (.istore_n 1, 1) := dk_60 (dk_at dksX1_keepPast_0 1 rfl rfl)
theorem dX1_keepPast_2 : decode cX1_keepPast 2 = .ok (.iload_n 1, 1) := dk_27 (dk_at dksX1_keepPast_0 2 rfl rfl)
theorem dX1_keepPast_3 : decode cX1_keepPast 3 = .ok (.bipush 20, 2) := dk_16 20 (dk_at dksX1_keepPast_0 3 rfl rfl)
theorem dX1_keepPast_5 : decode cX1_keepPast 5 = .ok (.if_icmp .ge 36, 3) := dk_162 0 36 (dk_at dksX1_keepPast_0 5 rfl rfl)
theorem dX1_keepPast_8 : decode cX1_keepPast 8 = .ok (.aload_n 0, 1) := dk_42 (dk_at dksX1_keepPast_0 8 rfl rfl)
theorem dX1_keepPast_9 : decode cX1_keepPast 9 = .ok (.getfield 7, 3) := dk_180 0 7 (dk_at dksX1_keepPast_0 9 rfl rfl)
theorem dX1_keepPast_12 : decode cX1_keepPast 12 = .ok (.bipush 21, 2) := dk_16 21 (dk_at dksX1_keepPast_0 12 rfl rfl)
theorem dX1_keepPast_14 : decode cX1_keepPast 14 = .ok (.bipush 20, 2) := dk_16 20 (dk_at dksX1_keepPast_0 14 rfl rfl)
theorem dX1_keepPast_16 : decode cX1_keepPast 16 = .ok (.aload_n 0, 1) := dk_42 (dk_at dksX1_keepPast_0 16 rfl rfl)
theorem dX1_keepPast_17 : decode cX1_keepPast 17 = .ok (.getfield 7, 3) := dk_180 0 7 (dk_at dksX1_keepPast_0 17 rfl rfl)
theorem dX1_keepPast_20 : decode cX1_keepPast 20 = .ok (.iconst 0, 1) := dk_3 (dk_at dksX1_keepPast_0 20 rfl rfl)
theorem dX1_keepPast_21 : decode cX1_keepPast 21 = .ok (.iaload, 1) := dk_46 (dk_at dksX1_keepPast_0 21 rfl rfl)
theorem dX1_keepPast_22 : decode cX1_keepPast 22 = .ok (.imul, 1) := dk_104 (dk_at dksX1_keepPast_0 22 rfl rfl)
theorem dX1_keepPast_23 : decode cX1_keepPast 23 = .ok (.iadd, 1) := dk_96 (dk_at dksX1_keepPast_0 23 rfl rfl)
theorem dX1_keepPast_24 : decode cX1_keepPast 24 = .ok (.iload_n 1, 1) := dk_27 (dk_at dksX1_keepPast_1 0 rfl rfl)
theorem dX1_keepPast_25 : decode cX1_keepPast 25 = .ok (.iadd, 1) := dk_96 (dk_at dksX1_keepPast_1 1 rfl rfl)
theorem dX1_keepPast_26 : decode cX1_keepPast 26 = .ok (.aload_n 0, 1) := dk_42 (dk_at dksX1_keepPast_1 2 rfl rfl)
theorem dX1_keepPast_27 : decode cX1_keepPast 27 = .ok (.getfield 7, 3) := dk_180 0 7 (dk_at dksX1_keepPast_1 3 rfl rfl)
theorem dX1_keepPast_30 : decode cX1_keepPast 30 = .ok (.iconst 1, 1) := dk_4 (dk_at dksX1_keepPast_1 6 rfl rfl)
theorem dX1_keepPast_31 : decode cX1_keepPast 31 = .ok (.iload_n 1, 1) := dk_27 (dk_at dksX1_keepPast_1 7 rfl rfl)
theorem dX1_keepPast_32 : decode cX1_keepPast 32 = .ok (.iadd, 1) := dk_96 (dk_at dksX1_keepPast_1 8 rfl rfl)
theorem dX1_keepPast_33 : decode cX1_keepPast 33 = .ok (.iaload, 1) := dk_46 (dk_at dksX1_keepPast_1 9 rfl rfl)
theorem dX1_keepPast_34 : decode cX1_keepPast 34 = .ok (.iastore, 1) := dk_79 (dk_at dksX1_keepPast_1 10 rfl rfl)
theorem dX1_keepPast_35 : decode cX1_keepPast 35 = .ok (.iinc 1 1, 3) := dk_132 1 1 (dk_at dksX1_keepPast_1 11 rfl rfl)
theorem dX1_keepPast_38 : decode cX1_keepPast 38 = .ok (.goto (-36), 3) := dk_167 255 220 (dk_at dksX1_keepPast_1 14 rfl rfl)
theorem dX1_keepPast_41 : decode cX1_keepPast 41 = .ok (.aload_n 0, 1) := dk_42 (dk_at dksX1_keepPast_1 17 rfl rfl)
theorem dX1_keepPast_42 : decode cX1_keepPast 42 = .ok (.getfield 7, 3) := dk_180 0 7 (dk_at dksX1_keepPast_1 18 rfl rfl)
theorem dX1_keepPast_45 : decode cX1_keepPast 45 = .ok (.iconst 0, 1) := dk_3 (dk_at dksX1_keepPast_1 21 rfl rfl)
theorem dX1_keepPast_46 : decode cX1_keepPast 46 = .ok (.dup2, 1) := dk_92 (dk_at dksX1_keepPast_1 22 rfl rfl)
theorem dX1_keepPast_47 : decode cX1_keepPast 47 = .ok (.iaload, 1) := dk_46 (dk_at dksX1_keepPast_1 23 rfl rfl)
theorem dX1_keepPast_48 : decode cX1_keepPast 48 = .ok (.iconst 1, 1) := dk_4 (dk_at dksX1_keepPast_2 0 rfl rfl)
theorem dX1_keepPast_49 : decode cX1_keepPast 49 = .ok (.iadd, 1) := dk_96 (dk_at dksX1_keepPast_2 1 rfl rfl)
theorem dX1_keepPast_50 : decode cX1_keepPast 50 = .ok (.iastore, 1) := dk_79 (dk_at dksX1_keepPast_2 2 rfl rfl)
theorem dX1_keepPast_51 : decode cX1_keepPast 51 = .ok (.return_, 1) := dk_177 (dk_at dksX1_keepPast_2 3 rfl rfl)
abbrev cX1_passes : ByteArray := prog_10_method_36_code
def yX1_passes : MethodName := ⟨RX1, "passes", "(I)I"⟩
def dkwX1_passes_5 : List UInt8 := [46, 4, 96, 79, 28, 172]
abbrev dktX1_passes_5 : List UInt8 := dkwX1_passes_5 ++ []
def dkwX1_passes_4 : List UInt8 := [156, 0, 7, 3, 167, 0, 5, 21, 4, 79, 132, 3, 1, 167, 255, 195, 42, 180, 0, 7, 27, 4, 96, 92]
abbrev dktX1_passes_4 : List UInt8 := dkwX1_passes_4 ++ dktX1_passes_5
def dkwX1_passes_3 : List UInt8 := [5, 167, 0, 8, 42, 29, 182, 0, 159, 100, 54, 4, 42, 180, 0, 7, 27, 16, 9, 96, 29, 96, 21, 4]
abbrev dktX1_passes_3 : List UInt8 := dkwX1_passes_3 ++ dktX1_passes_4
def dkwX1_passes_2 : List UInt8 := [29, 42, 180, 0, 136, 162, 0, 59, 42, 180, 0, 7, 27, 16, 9, 96, 29, 96, 46, 29, 28, 160, 0, 7]
abbrev dktX1_passes_2 : List UInt8 := dkwX1_passes_2 ++ dktX1_passes_3
def dkwX1_passes_1 : List UInt8 := [27, 6, 96, 28, 96, 46, 79, 42, 180, 0, 7, 27, 16, 15, 96, 28, 96, 92, 46, 4, 96, 79, 3, 62]
abbrev dktX1_passes_1 : List UInt8 := dkwX1_passes_1 ++ dktX1_passes_2
def dkwX1_passes_0 : List UInt8 := [42, 27, 3, 182, 0, 156, 61, 28, 16, 247, 159, 0, 36, 42, 180, 0, 7, 27, 5, 96, 42, 180, 0, 7]
abbrev dktX1_passes_0 : List UInt8 := dkwX1_passes_0 ++ dktX1_passes_1
theorem dksX1_passes_0 : cX1_passes.data.toList.drop 0 = dktX1_passes_0 := by decide +kernel
theorem dksX1_passes_1 : cX1_passes.data.toList.drop 24 = dktX1_passes_1 := dk_seg dksX1_passes_0 24 rfl rfl
theorem dksX1_passes_2 : cX1_passes.data.toList.drop 48 = dktX1_passes_2 := dk_seg dksX1_passes_1 24 rfl rfl
theorem dksX1_passes_3 : cX1_passes.data.toList.drop 72 = dktX1_passes_3 := dk_seg dksX1_passes_2 24 rfl rfl
theorem dksX1_passes_4 : cX1_passes.data.toList.drop 96 = dktX1_passes_4 := dk_seg dksX1_passes_3 24 rfl rfl
theorem dksX1_passes_5 : cX1_passes.data.toList.drop 120 = dktX1_passes_5 := dk_seg dksX1_passes_4 24 rfl rfl
theorem dX1_passes_0 : decode cX1_passes 0 = .ok (.aload_n 0, 1) := dk_42 (dk_at dksX1_passes_0 0 rfl rfl)
theorem dX1_passes_1 : decode cX1_passes 1 = .ok (.iload_n 1, 1) := dk_27 (dk_at dksX1_passes_0 1 rfl rfl)
theorem dX1_passes_2 : decode cX1_passes 2 = .ok (.iconst 0, 1) := dk_3 (dk_at dksX1_passes_0 2 rfl rfl)
theorem dX1_passes_3 : decode cX1_passes 3 = .ok (.invokevirtual 156, 3) := dk_182 0 156 (dk_at dksX1_passes_0 3 rfl rfl)
theorem dX1_passes_6 : decode cX1_passes 6 = .ok (.istore_n 2, 1) := dk_61 (dk_at dksX1_passes_0 6 rfl rfl)
theorem dX1_passes_7 : decode cX1_passes 7 = .ok (.iload_n 2, 1) := dk_28 (dk_at dksX1_passes_0 7 rfl rfl)
theorem dX1_passes_8 : decode cX1_passes 8 = .ok (.bipush (-9), 2) := dk_16 247 (dk_at dksX1_passes_0 8 rfl rfl)
theorem dX1_passes_10 : decode cX1_passes 10 = .ok (.if_icmp .eq 36, 3) := dk_159 0 36 (dk_at dksX1_passes_0 10 rfl rfl)
theorem dX1_passes_13 : decode cX1_passes 13 = .ok (.aload_n 0, 1) := dk_42 (dk_at dksX1_passes_0 13 rfl rfl)
theorem dX1_passes_14 : decode cX1_passes 14 = .ok (.getfield 7, 3) := dk_180 0 7 (dk_at dksX1_passes_0 14 rfl rfl)
theorem dX1_passes_17 : decode cX1_passes 17 = .ok (.iload_n 1, 1) := dk_27 (dk_at dksX1_passes_0 17 rfl rfl)
theorem dX1_passes_18 : decode cX1_passes 18 = .ok (.iconst 2, 1) := dk_5 (dk_at dksX1_passes_0 18 rfl rfl)
theorem dX1_passes_19 : decode cX1_passes 19 = .ok (.iadd, 1) := dk_96 (dk_at dksX1_passes_0 19 rfl rfl)
theorem dX1_passes_20 : decode cX1_passes 20 = .ok (.aload_n 0, 1) := dk_42 (dk_at dksX1_passes_0 20 rfl rfl)
theorem dX1_passes_21 : decode cX1_passes 21 = .ok (.getfield 7, 3) := dk_180 0 7 (dk_at dksX1_passes_0 21 rfl rfl)
theorem dX1_passes_24 : decode cX1_passes 24 = .ok (.iload_n 1, 1) := dk_27 (dk_at dksX1_passes_1 0 rfl rfl)
theorem dX1_passes_25 : decode cX1_passes 25 = .ok (.iconst 3, 1) := dk_6 (dk_at dksX1_passes_1 1 rfl rfl)
theorem dX1_passes_26 : decode cX1_passes 26 = .ok (.iadd, 1) := dk_96 (dk_at dksX1_passes_1 2 rfl rfl)
theorem dX1_passes_27 : decode cX1_passes 27 = .ok (.iload_n 2, 1) := dk_28 (dk_at dksX1_passes_1 3 rfl rfl)
theorem dX1_passes_28 : decode cX1_passes 28 = .ok (.iadd, 1) := dk_96 (dk_at dksX1_passes_1 4 rfl rfl)
theorem dX1_passes_29 : decode cX1_passes 29 = .ok (.iaload, 1) := dk_46 (dk_at dksX1_passes_1 5 rfl rfl)
theorem dX1_passes_30 : decode cX1_passes 30 = .ok (.iastore, 1) := dk_79 (dk_at dksX1_passes_1 6 rfl rfl)
theorem dX1_passes_31 : decode cX1_passes 31 = .ok (.aload_n 0, 1) := dk_42 (dk_at dksX1_passes_1 7 rfl rfl)
theorem dX1_passes_32 : decode cX1_passes 32 = .ok (.getfield 7, 3) := dk_180 0 7 (dk_at dksX1_passes_1 8 rfl rfl)
theorem dX1_passes_35 : decode cX1_passes 35 = .ok (.iload_n 1, 1) := dk_27 (dk_at dksX1_passes_1 11 rfl rfl)
theorem dX1_passes_36 : decode cX1_passes 36 = .ok (.bipush 15, 2) := dk_16 15 (dk_at dksX1_passes_1 12 rfl rfl)
theorem dX1_passes_38 : decode cX1_passes 38 = .ok (.iadd, 1) := dk_96 (dk_at dksX1_passes_1 14 rfl rfl)
theorem dX1_passes_39 : decode cX1_passes 39 = .ok (.iload_n 2, 1) := dk_28 (dk_at dksX1_passes_1 15 rfl rfl)
theorem dX1_passes_40 : decode cX1_passes 40 = .ok (.iadd, 1) := dk_96 (dk_at dksX1_passes_1 16 rfl rfl)
theorem dX1_passes_41 : decode cX1_passes 41 = .ok (.dup2, 1) := dk_92 (dk_at dksX1_passes_1 17 rfl rfl)
theorem dX1_passes_42 : decode cX1_passes 42 = .ok (.iaload, 1) := dk_46 (dk_at dksX1_passes_1 18 rfl rfl)
theorem dX1_passes_43 : decode cX1_passes 43 = .ok (.iconst 1, 1) := dk_4 (dk_at dksX1_passes_1 19 rfl rfl)
theorem dX1_passes_44 : decode cX1_passes 44 = .ok (.iadd, 1) := dk_96 (dk_at dksX1_passes_1 20 rfl rfl)
theorem dX1_passes_45 : decode cX1_passes 45 = .ok (.iastore, 1) := dk_79 (dk_at dksX1_passes_1 21 rfl rfl)
theorem dX1_passes_46 : decode cX1_passes 46 = .ok (.iconst 0, 1) := dk_3 (dk_at dksX1_passes_1 22 rfl rfl)
theorem dX1_passes_47 : decode cX1_passes 47 = .ok (.istore_n 3, 1) := dk_62 (dk_at dksX1_passes_1 23 rfl rfl)
theorem dX1_passes_48 : decode cX1_passes 48 = .ok (.iload_n 3, 1) := dk_29 (dk_at dksX1_passes_2 0 rfl rfl)
theorem dX1_passes_49 : decode cX1_passes 49 = .ok (.aload_n 0, 1) := dk_42 (dk_at dksX1_passes_2 1 rfl rfl)
theorem dX1_passes_50 : decode cX1_passes 50 = .ok (.getfield 136, 3) := dk_180 0 136 (dk_at dksX1_passes_2 2 rfl rfl)
theorem dX1_passes_53 : decode cX1_passes 53 = .ok (.if_icmp .ge 59, 3) := dk_162 0 59 (dk_at dksX1_passes_2 5 rfl rfl)
theorem dX1_passes_56 : decode cX1_passes 56 = .ok (.aload_n 0, 1) := dk_42 (dk_at dksX1_passes_2 8 rfl rfl)
theorem dX1_passes_57 : decode cX1_passes 57 = .ok (.getfield 7, 3) := dk_180 0 7 (dk_at dksX1_passes_2 9 rfl rfl)
theorem dX1_passes_60 : decode cX1_passes 60 = .ok (.iload_n 1, 1) := dk_27 (dk_at dksX1_passes_2 12 rfl rfl)
theorem dX1_passes_61 : decode cX1_passes 61 = .ok (.bipush 9, 2) := dk_16 9 (dk_at dksX1_passes_2 13 rfl rfl)
theorem dX1_passes_63 : decode cX1_passes 63 = .ok (.iadd, 1) := dk_96 (dk_at dksX1_passes_2 15 rfl rfl)
theorem dX1_passes_64 : decode cX1_passes 64 = .ok (.iload_n 3, 1) := dk_29 (dk_at dksX1_passes_2 16 rfl rfl)
theorem dX1_passes_65 : decode cX1_passes 65 = .ok (.iadd, 1) := dk_96 (dk_at dksX1_passes_2 17 rfl rfl)
theorem dX1_passes_66 : decode cX1_passes 66 = .ok (.iaload, 1) := dk_46 (dk_at dksX1_passes_2 18 rfl rfl)
theorem dX1_passes_67 : decode cX1_passes 67 = .ok (.iload_n 3, 1) := dk_29 (dk_at dksX1_passes_2 19 rfl rfl)
theorem dX1_passes_68 : decode cX1_passes 68 = .ok (.iload_n 2, 1) := dk_28 (dk_at dksX1_passes_2 20 rfl rfl)
theorem dX1_passes_69 : decode cX1_passes 69 = .ok (.if_icmp .ne 7, 3) := dk_160 0 7 (dk_at dksX1_passes_2 21 rfl rfl)
theorem dX1_passes_72 : decode cX1_passes 72 = .ok (.iconst 2, 1) := dk_5 (dk_at dksX1_passes_3 0 rfl rfl)
theorem dX1_passes_73 : decode cX1_passes 73 = .ok (.goto 8, 3) := dk_167 0 8 (dk_at dksX1_passes_3 1 rfl rfl)
theorem dX1_passes_76 : decode cX1_passes 76 = .ok (.aload_n 0, 1) := dk_42 (dk_at dksX1_passes_3 4 rfl rfl)
theorem dX1_passes_77 : decode cX1_passes 77 = .ok (.iload_n 3, 1) := dk_29 (dk_at dksX1_passes_3 5 rfl rfl)
theorem dX1_passes_78 : decode cX1_passes 78 = .ok (.invokevirtual 159, 3) := dk_182 0 159 (dk_at dksX1_passes_3 6 rfl rfl)
theorem dX1_passes_81 : decode cX1_passes 81 = .ok (.isub, 1) := dk_100 (dk_at dksX1_passes_3 9 rfl rfl)
theorem dX1_passes_82 : decode cX1_passes 82 = .ok (.istore 4, 2) := dk_54 4 (dk_at dksX1_passes_3 10 rfl rfl)
theorem dX1_passes_84 : decode cX1_passes 84 = .ok (.aload_n 0, 1) := dk_42 (dk_at dksX1_passes_3 12 rfl rfl)
theorem dX1_passes_85 : decode cX1_passes 85 = .ok (.getfield 7, 3) := dk_180 0 7 (dk_at dksX1_passes_3 13 rfl rfl)
theorem dX1_passes_88 : decode cX1_passes 88 = .ok (.iload_n 1, 1) := dk_27 (dk_at dksX1_passes_3 16 rfl rfl)
theorem dX1_passes_89 : decode cX1_passes 89 = .ok (.bipush 9, 2) := dk_16 9 (dk_at dksX1_passes_3 17 rfl rfl)
theorem dX1_passes_91 : decode cX1_passes 91 = .ok (.iadd, 1) := dk_96 (dk_at dksX1_passes_3 19 rfl rfl)
theorem dX1_passes_92 : decode cX1_passes 92 = .ok (.iload_n 3, 1) := dk_29 (dk_at dksX1_passes_3 20 rfl rfl)
theorem dX1_passes_93 : decode cX1_passes 93 = .ok (.iadd, 1) := dk_96 (dk_at dksX1_passes_3 21 rfl rfl)
theorem dX1_passes_94 : decode cX1_passes 94 = .ok (.iload 4, 2) := dk_21 4 (dk_at dksX1_passes_3 22 rfl rfl)
theorem dX1_passes_96 : decode cX1_passes 96 = .ok (.ifCond .ge 7, 3) := dk_156 0 7 (dk_at dksX1_passes_4 0 rfl rfl)
theorem dX1_passes_99 : decode cX1_passes 99 = .ok (.iconst 0, 1) := dk_3 (dk_at dksX1_passes_4 3 rfl rfl)
theorem dX1_passes_100 : decode cX1_passes 100 = .ok (.goto 5, 3) := dk_167 0 5 (dk_at dksX1_passes_4 4 rfl rfl)
theorem dX1_passes_103 : decode cX1_passes 103 = .ok (.iload 4, 2) := dk_21 4 (dk_at dksX1_passes_4 7 rfl rfl)
theorem dX1_passes_105 : decode cX1_passes 105 = .ok (.iastore, 1) := dk_79 (dk_at dksX1_passes_4 9 rfl rfl)
theorem dX1_passes_106 : decode cX1_passes 106 = .ok (.iinc 3 1, 3) := dk_132 3 1 (dk_at dksX1_passes_4 10 rfl rfl)
theorem dX1_passes_109 : decode cX1_passes 109 = .ok (.goto (-61), 3) := dk_167 255 195 (dk_at dksX1_passes_4 13 rfl rfl)
theorem dX1_passes_112 : decode cX1_passes 112 = .ok (.aload_n 0, 1) := dk_42 (dk_at dksX1_passes_4 16 rfl rfl)
theorem dX1_passes_113 : decode cX1_passes 113 = .ok (.getfield 7, 3) := dk_180 0 7 (dk_at dksX1_passes_4 17 rfl rfl)
theorem dX1_passes_116 : decode cX1_passes 116 = .ok (.iload_n 1, 1) := dk_27 (dk_at dksX1_passes_4 20 rfl rfl)
theorem dX1_passes_117 : decode cX1_passes 117 = .ok (.iconst 1, 1) := dk_4 (dk_at dksX1_passes_4 21 rfl rfl)
theorem dX1_passes_118 : decode cX1_passes 118 = .ok (.iadd, 1) := dk_96 (dk_at dksX1_passes_4 22 rfl rfl)
theorem dX1_passes_119 : decode cX1_passes 119 = .ok (.dup2, 1) := dk_92 (dk_at dksX1_passes_4 23 rfl rfl)
theorem dX1_passes_120 : decode cX1_passes 120 = .ok (.iaload, 1) := dk_46 (dk_at dksX1_passes_5 0 rfl rfl)
theorem dX1_passes_121 : decode cX1_passes 121 = .ok (.iconst 1, 1) := dk_4 (dk_at dksX1_passes_5 1 rfl rfl)
theorem dX1_passes_122 : decode cX1_passes 122 = .ok (.iadd, 1) := dk_96 (dk_at dksX1_passes_5 2 rfl rfl)
theorem dX1_passes_123 : decode cX1_passes 123 = .ok (.iastore, 1) := dk_79 (dk_at dksX1_passes_5 3 rfl rfl)
theorem dX1_passes_124 : decode cX1_passes 124 = .ok (.iload_n 2, 1) := dk_28 (dk_at dksX1_passes_5 4 rfl rfl)
theorem dX1_passes_125 : decode cX1_passes 125 = .ok (.ireturn, 1) := dk_172 (dk_at dksX1_passes_5 5 rfl rfl)
abbrev cX1_boldest : ByteArray := prog_10_method_34_code
def yX1_boldest : MethodName := ⟨RX1, "boldest", "(II)I"⟩
def dkwX1_boldest_4 : List UInt8 := [62, 21, 7, 153, 0, 8, 21, 6, 167, 0, 5, 21, 4, 54, 4, 132, 5, 1, 167, 255, 153, 29, 172]
abbrev dktX1_boldest_4 : List UInt8 := dkwX1_boldest_4 ++ []
def dkwX1_boldest_3 : List UInt8 := [182, 0, 142, 162, 0, 7, 4, 167, 0, 4, 3, 54, 7, 21, 7, 153, 0, 8, 21, 5, 167, 0, 4, 29]
abbrev dktX1_boldest_3 : List UInt8 := dkwX1_boldest_3 ++ dktX1_boldest_4
def dkwX1_boldest_2 : List UInt8 := [21, 6, 21, 4, 160, 0, 29, 29, 16, 247, 159, 0, 23, 42, 27, 21, 5, 182, 0, 142, 42, 27, 29]
abbrev dktX1_boldest_2 : List UInt8 := dkwX1_boldest_2 ++ dktX1_boldest_3
def dkwX1_boldest_1 : List UInt8 := [153, 0, 7, 3, 167, 0, 10, 42, 27, 21, 5, 182, 0, 153, 54, 6, 21, 6, 21, 4, 163, 0, 32]
abbrev dktX1_boldest_1 : List UInt8 := dkwX1_boldest_1 ++ dktX1_boldest_2
def dkwX1_boldest_0 : List UInt8 := [16, 247, 62, 3, 54, 4, 3, 54, 5, 21, 5, 42, 180, 0, 136, 162, 0, 100, 28, 21, 5, 184, 0, 149]
abbrev dktX1_boldest_0 : List UInt8 := dkwX1_boldest_0 ++ dktX1_boldest_1
theorem dksX1_boldest_0 : cX1_boldest.data.toList.drop 0 = dktX1_boldest_0 := by decide +kernel
theorem dksX1_boldest_1 : cX1_boldest.data.toList.drop 24 = dktX1_boldest_1 := dk_seg dksX1_boldest_0 24 rfl rfl
theorem dksX1_boldest_2 : cX1_boldest.data.toList.drop 47 = dktX1_boldest_2 := dk_seg dksX1_boldest_1 23 rfl rfl
theorem dksX1_boldest_3 : cX1_boldest.data.toList.drop 70 = dktX1_boldest_3 := dk_seg dksX1_boldest_2 23 rfl rfl
theorem dksX1_boldest_4 : cX1_boldest.data.toList.drop 94 = dktX1_boldest_4 := dk_seg dksX1_boldest_3 24 rfl rfl
theorem dX1_boldest_0 : decode cX1_boldest 0 = .ok (.bipush (-9), 2) := dk_16 247 (dk_at dksX1_boldest_0 0 rfl rfl)
theorem dX1_boldest_2 : decode cX1_boldest 2 = .ok (.istore_n 3, 1) := dk_62 (dk_at dksX1_boldest_0 2 rfl rfl)
theorem dX1_boldest_3 : decode cX1_boldest 3 = .ok (.iconst 0, 1) := dk_3 (dk_at dksX1_boldest_0 3 rfl rfl)
theorem dX1_boldest_4 : decode cX1_boldest 4 = .ok (.istore 4, 2) := dk_54 4 (dk_at dksX1_boldest_0 4 rfl rfl)
theorem dX1_boldest_6 : decode cX1_boldest 6 = .ok (.iconst 0, 1) := dk_3 (dk_at dksX1_boldest_0 6 rfl rfl)
theorem dX1_boldest_7 : decode cX1_boldest 7 = .ok (.istore 5, 2) := dk_54 5 (dk_at dksX1_boldest_0 7 rfl rfl)
theorem dX1_boldest_9 : decode cX1_boldest 9 = .ok (.iload 5, 2) := dk_21 5 (dk_at dksX1_boldest_0 9 rfl rfl)
theorem dX1_boldest_11 : decode cX1_boldest 11 = .ok (.aload_n 0, 1) := dk_42 (dk_at dksX1_boldest_0 11 rfl rfl)
theorem dX1_boldest_12 : decode cX1_boldest 12 = .ok (.getfield 136, 3) := dk_180 0 136 (dk_at dksX1_boldest_0 12 rfl rfl)
theorem dX1_boldest_15 : decode cX1_boldest 15 = .ok (.if_icmp .ge 100, 3) := dk_162 0 100 (dk_at dksX1_boldest_0 15 rfl rfl)
theorem dX1_boldest_18 : decode cX1_boldest 18 = .ok (.iload_n 2, 1) := dk_28 (dk_at dksX1_boldest_0 18 rfl rfl)
theorem dX1_boldest_19 : decode cX1_boldest 19 = .ok (.iload 5, 2) := dk_21 5 (dk_at dksX1_boldest_0 19 rfl rfl)
theorem dX1_boldest_21 : decode cX1_boldest 21 = .ok (.invokestatic 149, 3) := dk_184 0 149 (dk_at dksX1_boldest_0 21 rfl rfl)
theorem dX1_boldest_24 : decode cX1_boldest 24 = .ok (.ifCond .eq 7, 3) := dk_153 0 7 (dk_at dksX1_boldest_1 0 rfl rfl)
theorem dX1_boldest_27 : decode cX1_boldest 27 = .ok (.iconst 0, 1) := dk_3 (dk_at dksX1_boldest_1 3 rfl rfl)
theorem dX1_boldest_28 : decode cX1_boldest 28 = .ok (.goto 10, 3) := dk_167 0 10 (dk_at dksX1_boldest_1 4 rfl rfl)
theorem dX1_boldest_31 : decode cX1_boldest 31 = .ok (.aload_n 0, 1) := dk_42 (dk_at dksX1_boldest_1 7 rfl rfl)
theorem dX1_boldest_32 : decode cX1_boldest 32 = .ok (.iload_n 1, 1) := dk_27 (dk_at dksX1_boldest_1 8 rfl rfl)
theorem dX1_boldest_33 : decode cX1_boldest 33 = .ok (.iload 5, 2) := dk_21 5 (dk_at dksX1_boldest_1 9 rfl rfl)
theorem dX1_boldest_35 : decode cX1_boldest 35 = .ok (.invokevirtual 153, 3) := dk_182 0 153 (dk_at dksX1_boldest_1 11 rfl rfl)
theorem dX1_boldest_38 : decode cX1_boldest 38 = .ok (.istore 6, 2) := dk_54 6 (dk_at dksX1_boldest_1 14 rfl rfl)
theorem dX1_boldest_40 : decode cX1_boldest 40 = .ok (.iload 6, 2) := dk_21 6 (dk_at dksX1_boldest_1 16 rfl rfl)
theorem dX1_boldest_42 : decode cX1_boldest 42 = .ok (.iload 4, 2) := dk_21 4 (dk_at dksX1_boldest_1 18 rfl rfl)
theorem dX1_boldest_44 : decode cX1_boldest 44 = .ok (.if_icmp .gt 32, 3) := dk_163 0 32 (dk_at dksX1_boldest_1 20 rfl rfl)
theorem dX1_boldest_47 : decode cX1_boldest 47 = .ok (.iload 6, 2) := dk_21 6 (dk_at dksX1_boldest_2 0 rfl rfl)
theorem dX1_boldest_49 : decode cX1_boldest 49 = .ok (.iload 4, 2) := dk_21 4 (dk_at dksX1_boldest_2 2 rfl rfl)
theorem dX1_boldest_51 : decode cX1_boldest 51 = .ok (.if_icmp .ne 29, 3) := dk_160 0 29 (dk_at dksX1_boldest_2 4 rfl rfl)
theorem dX1_boldest_54 : decode cX1_boldest 54 = .ok (.iload_n 3, 1) := dk_29 (dk_at dksX1_boldest_2 7 rfl rfl)
theorem dX1_boldest_55 : decode cX1_boldest 55 = .ok (.bipush (-9), 2) := dk_16 247 (dk_at dksX1_boldest_2 8 rfl rfl)
theorem dX1_boldest_57 : decode cX1_boldest 57 = .ok (.if_icmp .eq 23, 3) := dk_159 0 23 (dk_at dksX1_boldest_2 10 rfl rfl)
theorem dX1_boldest_60 : decode cX1_boldest 60 = .ok (.aload_n 0, 1) := dk_42 (dk_at dksX1_boldest_2 13 rfl rfl)
theorem dX1_boldest_61 : decode cX1_boldest 61 = .ok (.iload_n 1, 1) := dk_27 (dk_at dksX1_boldest_2 14 rfl rfl)
theorem dX1_boldest_62 : decode cX1_boldest 62 = .ok (.iload 5, 2) := dk_21 5 (dk_at dksX1_boldest_2 15 rfl rfl)
theorem dX1_boldest_64 : decode cX1_boldest 64 = .ok (.invokevirtual 142, 3) := dk_182 0 142 (dk_at dksX1_boldest_2 17 rfl rfl)
theorem dX1_boldest_67 : decode cX1_boldest 67 = .ok (.aload_n 0, 1) := dk_42 (dk_at dksX1_boldest_2 20 rfl rfl)
theorem dX1_boldest_68 : decode cX1_boldest 68 = .ok (.iload_n 1, 1) := dk_27 (dk_at dksX1_boldest_2 21 rfl rfl)
theorem dX1_boldest_69 : decode cX1_boldest 69 = .ok (.iload_n 3, 1) := dk_29 (dk_at dksX1_boldest_2 22 rfl rfl)
theorem dX1_boldest_70 : decode cX1_boldest 70 = .ok (.invokevirtual 142, 3) := dk_182 0 142 (dk_at dksX1_boldest_3 0 rfl rfl)
theorem dX1_boldest_73 : decode cX1_boldest 73 = .ok (.if_icmp .ge 7, 3) := dk_162 0 7 (dk_at dksX1_boldest_3 3 rfl rfl)
theorem dX1_boldest_76 : decode cX1_boldest 76 = .ok (.iconst 1, 1) := dk_4 (dk_at dksX1_boldest_3 6 rfl rfl)
theorem dX1_boldest_77 : decode cX1_boldest 77 = .ok (.goto 4, 3) := dk_167 0 4 (dk_at dksX1_boldest_3 7 rfl rfl)
theorem dX1_boldest_80 : decode cX1_boldest 80 = .ok (.iconst 0, 1) := dk_3 (dk_at dksX1_boldest_3 10 rfl rfl)
theorem dX1_boldest_81 : decode cX1_boldest 81 = .ok (.istore 7, 2) := dk_54 7 (dk_at dksX1_boldest_3 11 rfl rfl)
theorem dX1_boldest_83 : decode cX1_boldest 83 = .ok (.iload 7, 2) := dk_21 7 (dk_at dksX1_boldest_3 13 rfl rfl)
theorem dX1_boldest_85 : decode cX1_boldest 85 = .ok (.ifCond .eq 8, 3) := dk_153 0 8 (dk_at dksX1_boldest_3 15 rfl rfl)
theorem dX1_boldest_88 : decode cX1_boldest 88 = .ok (.iload 5, 2) := dk_21 5 (dk_at dksX1_boldest_3 18 rfl rfl)
theorem dX1_boldest_90 : decode cX1_boldest 90 = .ok (.goto 4, 3) := dk_167 0 4 (dk_at dksX1_boldest_3 20 rfl rfl)
theorem dX1_boldest_93 : decode cX1_boldest 93 = .ok (.iload_n 3, 1) := dk_29 (dk_at dksX1_boldest_3 23 rfl rfl)
theorem dX1_boldest_94 : decode cX1_boldest 94 = .ok (.istore_n 3, 1) := dk_62 (dk_at dksX1_boldest_4 0 rfl rfl)
theorem dX1_boldest_95 : decode cX1_boldest 95 = .ok (.iload 7, 2) := dk_21 7 (dk_at dksX1_boldest_4 1 rfl rfl)
theorem dX1_boldest_97 : decode cX1_boldest 97 = .ok (.ifCond .eq 8, 3) := dk_153 0 8 (dk_at dksX1_boldest_4 3 rfl rfl)
theorem dX1_boldest_100 : decode cX1_boldest 100 = .ok (.iload 6, 2) := dk_21 6 (dk_at dksX1_boldest_4 6 rfl rfl)
theorem dX1_boldest_102 : decode cX1_boldest 102 = .ok (.goto 5, 3) := dk_167 0 5 (dk_at dksX1_boldest_4 8 rfl rfl)
theorem dX1_boldest_105 : decode cX1_boldest 105 = .ok (.iload 4, 2) := dk_21 4 (dk_at dksX1_boldest_4 11 rfl rfl)
theorem dX1_boldest_107 : decode cX1_boldest 107 = .ok (.istore 4, 2) := dk_54 4 (dk_at dksX1_boldest_4 13 rfl rfl)
theorem dX1_boldest_109 : decode cX1_boldest 109 = .ok (.iinc 5 1, 3) := dk_132 5 1 (dk_at dksX1_boldest_4 15 rfl rfl)
theorem dX1_boldest_112 : decode cX1_boldest 112 = .ok (.goto (-103), 3) := dk_167 255 153 (dk_at dksX1_boldest_4 18 rfl rfl)
theorem dX1_boldest_115 : decode cX1_boldest 115 = .ok (.iload_n 3, 1) := dk_29 (dk_at dksX1_boldest_4 21 rfl rfl)
theorem dX1_boldest_116 : decode cX1_boldest 116 = .ok (.ireturn, 1) := dk_172 (dk_at dksX1_boldest_4 22 rfl rfl)
abbrev cX1_has : ByteArray := prog_10_method_3_code
def yX1_has : MethodName := ⟨RX1, "has", "(II)Z"⟩
def dkwX1_has_0 : List UInt8 := [26, 27, 122, 4, 126, 4, 160, 0, 7, 4, 167, 0, 4, 3, 172]
abbrev dktX1_has_0 : List UInt8 := dkwX1_has_0 ++ []
theorem dksX1_has_0 : cX1_has.data.toList.drop 0 = dktX1_has_0 := by decide +kernel
theorem dX1_has_0 : decode cX1_has 0 = .ok (.iload_n 0, 1) := dk_26 (dk_at dksX1_has_0 0 rfl rfl)
theorem dX1_has_1 : decode cX1_has 1 = .ok (.iload_n 1, 1) := dk_27 (dk_at dksX1_has_0 1 rfl rfl)
theorem dX1_has_2 : decode cX1_has 2 = .ok (.ishr, 1) := dk_122 (dk_at dksX1_has_0 2 rfl rfl)
theorem dX1_has_3 : decode cX1_has 3 = .ok (.iconst 1, 1) := dk_4 (dk_at dksX1_has_0 3 rfl rfl)
theorem dX1_has_4 : decode cX1_has 4 = .ok (.iand, 1) := dk_126 (dk_at dksX1_has_0 4 rfl rfl)
theorem dX1_has_5 : decode cX1_has 5 = .ok (.iconst 1, 1) := dk_4 (dk_at dksX1_has_0 5 rfl rfl)
theorem dX1_has_6 : decode cX1_has 6 = .ok (.if_icmp .ne 7, 3) := dk_160 0 7 (dk_at dksX1_has_0 6 rfl rfl)
theorem dX1_has_9 : decode cX1_has 9 = .ok (.iconst 1, 1) := dk_4 (dk_at dksX1_has_0 9 rfl rfl)
theorem dX1_has_10 : decode cX1_has 10 = .ok (.goto 4, 3) := dk_167 0 4 (dk_at dksX1_has_0 10 rfl rfl)
theorem dX1_has_13 : decode cX1_has 13 = .ok (.iconst 0, 1) := dk_3 (dk_at dksX1_has_0 13 rfl rfl)
theorem dX1_has_14 : decode cX1_has 14 = .ok (.ireturn, 1) := dk_172 (dk_at dksX1_has_0 14 rfl rfl)
abbrev cX1_fades : ByteArray := prog_10_method_35_code
def yX1_fades : MethodName := ⟨RX1, "fades", "(I)I"⟩
def dkwX1_fades_2 : List UInt8 := [4, 172]
abbrev dktX1_fades_2 : List UInt8 := dkwX1_fades_2 ++ []
def dkwX1_fades_1 : List UInt8 := [42, 180, 0, 13, 27, 46, 5, 159, 0, 13, 42, 180, 0, 13, 27, 46, 8, 160, 0, 7, 5, 167, 0, 4]
abbrev dktX1_fades_1 : List UInt8 := dkwX1_fades_1 ++ dktX1_fades_2
def dkwX1_fades_0 : List UInt8 := [42, 180, 0, 13, 27, 46, 6, 159, 0, 13, 42, 180, 0, 13, 27, 46, 7, 160, 0, 7, 3, 167, 0, 28]
abbrev dktX1_fades_0 : List UInt8 := dkwX1_fades_0 ++ dktX1_fades_1
theorem dksX1_fades_0 : cX1_fades.data.toList.drop 0 = dktX1_fades_0 := by decide +kernel
theorem dksX1_fades_1 : cX1_fades.data.toList.drop 24 = dktX1_fades_1 := dk_seg dksX1_fades_0 24 rfl rfl
theorem dksX1_fades_2 : cX1_fades.data.toList.drop 48 = dktX1_fades_2 := dk_seg dksX1_fades_1 24 rfl rfl
theorem dX1_fades_0 : decode cX1_fades 0 = .ok (.aload_n 0, 1) := dk_42 (dk_at dksX1_fades_0 0 rfl rfl)
theorem dX1_fades_1 : decode cX1_fades 1 = .ok (.getfield 13, 3) := dk_180 0 13 (dk_at dksX1_fades_0 1 rfl rfl)
theorem dX1_fades_4 : decode cX1_fades 4 = .ok (.iload_n 1, 1) := dk_27 (dk_at dksX1_fades_0 4 rfl rfl)
theorem dX1_fades_5 : decode cX1_fades 5 = .ok (.iaload, 1) := dk_46 (dk_at dksX1_fades_0 5 rfl rfl)
theorem dX1_fades_6 : decode cX1_fades 6 = .ok (.iconst 3, 1) := dk_6 (dk_at dksX1_fades_0 6 rfl rfl)
theorem dX1_fades_7 : decode cX1_fades 7 = .ok (.if_icmp .eq 13, 3) := dk_159 0 13 (dk_at dksX1_fades_0 7 rfl rfl)
theorem dX1_fades_10 : decode cX1_fades 10 = .ok (.aload_n 0, 1) := dk_42 (dk_at dksX1_fades_0 10 rfl rfl)
theorem dX1_fades_11 : decode cX1_fades 11 = .ok (.getfield 13, 3) := dk_180 0 13 (dk_at dksX1_fades_0 11 rfl rfl)
theorem dX1_fades_14 : decode cX1_fades 14 = .ok (.iload_n 1, 1) := dk_27 (dk_at dksX1_fades_0 14 rfl rfl)
theorem dX1_fades_15 : decode cX1_fades 15 = .ok (.iaload, 1) := dk_46 (dk_at dksX1_fades_0 15 rfl rfl)
theorem dX1_fades_16 : decode cX1_fades 16 = .ok (.iconst 4, 1) := dk_7 (dk_at dksX1_fades_0 16 rfl rfl)
theorem dX1_fades_17 : decode cX1_fades 17 = .ok (.if_icmp .ne 7, 3) := dk_160 0 7 (dk_at dksX1_fades_0 17 rfl rfl)
theorem dX1_fades_20 : decode cX1_fades 20 = .ok (.iconst 0, 1) := dk_3 (dk_at dksX1_fades_0 20 rfl rfl)
theorem dX1_fades_21 : decode cX1_fades 21 = .ok (.goto 28, 3) := dk_167 0 28 (dk_at dksX1_fades_0 21 rfl rfl)
theorem dX1_fades_24 : decode cX1_fades 24 = .ok (.aload_n 0, 1) := dk_42 (dk_at dksX1_fades_1 0 rfl rfl)
theorem dX1_fades_25 : decode cX1_fades 25 = .ok (.getfield 13, 3) := dk_180 0 13 (dk_at dksX1_fades_1 1 rfl rfl)
theorem dX1_fades_28 : decode cX1_fades 28 = .ok (.iload_n 1, 1) := dk_27 (dk_at dksX1_fades_1 4 rfl rfl)
theorem dX1_fades_29 : decode cX1_fades 29 = .ok (.iaload, 1) := dk_46 (dk_at dksX1_fades_1 5 rfl rfl)
theorem dX1_fades_30 : decode cX1_fades 30 = .ok (.iconst 2, 1) := dk_5 (dk_at dksX1_fades_1 6 rfl rfl)
theorem dX1_fades_31 : decode cX1_fades 31 = .ok (.if_icmp .eq 13, 3) := dk_159 0 13 (dk_at dksX1_fades_1 7 rfl rfl)
theorem dX1_fades_34 : decode cX1_fades 34 = .ok (.aload_n 0, 1) := dk_42 (dk_at dksX1_fades_1 10 rfl rfl)
theorem dX1_fades_35 : decode cX1_fades 35 = .ok (.getfield 13, 3) := dk_180 0 13 (dk_at dksX1_fades_1 11 rfl rfl)
theorem dX1_fades_38 : decode cX1_fades 38 = .ok (.iload_n 1, 1) := dk_27 (dk_at dksX1_fades_1 14 rfl rfl)
theorem dX1_fades_39 : decode cX1_fades 39 = .ok (.iaload, 1) := dk_46 (dk_at dksX1_fades_1 15 rfl rfl)
theorem dX1_fades_40 : decode cX1_fades 40 = .ok (.iconst 5, 1) := dk_8 (dk_at dksX1_fades_1 16 rfl rfl)
theorem dX1_fades_41 : decode cX1_fades 41 = .ok (.if_icmp .ne 7, 3) := dk_160 0 7 (dk_at dksX1_fades_1 17 rfl rfl)
theorem dX1_fades_44 : decode cX1_fades 44 = .ok (.iconst 2, 1) := dk_5 (dk_at dksX1_fades_1 20 rfl rfl)
theorem dX1_fades_45 : decode cX1_fades 45 = .ok (.goto 4, 3) := dk_167 0 4 (dk_at dksX1_fades_1 21 rfl rfl)
theorem dX1_fades_48 : decode cX1_fades 48 = .ok (.iconst 1, 1) := dk_4 (dk_at dksX1_fades_2 0 rfl rfl)
theorem dX1_fades_49 : decode cX1_fades 49 = .ok (.ireturn, 1) := dk_172 (dk_at dksX1_fades_2 1 rfl rfl)
abbrev cX1_raise : ByteArray := prog_10_method_45_code
def yX1_raise : MethodName := ⟨RX1, "raise", "(II)I"⟩
def dkwX1_raise_1 : List UInt8 := [180, 0, 7, 16, 9, 27, 96, 46, 28, 96, 182, 0, 184, 167, 0, 4, 2, 172]
abbrev dktX1_raise_1 : List UInt8 := dkwX1_raise_1 ++ []
def dkwX1_raise_0 : List UInt8 := [42, 27, 182, 0, 162, 153, 0, 34, 28, 133, 10, 20, 0, 182, 184, 0, 59, 153, 0, 22, 42, 27, 42]
abbrev dktX1_raise_0 : List UInt8 := dkwX1_raise_0 ++ dktX1_raise_1
theorem dksX1_raise_0 : cX1_raise.data.toList.drop 0 = dktX1_raise_0 := by decide +kernel
theorem dksX1_raise_1 : cX1_raise.data.toList.drop 23 = dktX1_raise_1 := dk_seg dksX1_raise_0 23 rfl rfl
theorem dX1_raise_0 : decode cX1_raise 0 = .ok (.aload_n 0, 1) := dk_42 (dk_at dksX1_raise_0 0 rfl rfl)
theorem dX1_raise_1 : decode cX1_raise 1 = .ok (.iload_n 1, 1) := dk_27 (dk_at dksX1_raise_0 1 rfl rfl)
theorem dX1_raise_2 : decode cX1_raise 2 = .ok (.invokevirtual 162, 3) := dk_182 0 162 (dk_at dksX1_raise_0 2 rfl rfl)
theorem dX1_raise_5 : decode cX1_raise 5 = .ok (.ifCond .eq 34, 3) := dk_153 0 34 (dk_at dksX1_raise_0 5 rfl rfl)
theorem dX1_raise_8 : decode cX1_raise 8 = .ok (.iload_n 2, 1) := dk_28 (dk_at dksX1_raise_0 8 rfl rfl)
theorem dX1_raise_9 : decode cX1_raise 9 = .ok (.i2l, 1) := dk_133 (dk_at dksX1_raise_0 9 rfl rfl)
theorem dX1_raise_10 : decode cX1_raise 10 = .ok (.lconst 1, 1) := dk_10 (dk_at dksX1_raise_0 10 rfl rfl)
theorem dX1_raise_11 : decode cX1_raise 11 = .ok (.ldc2_w 182, 3) := dk_20 0 182 (dk_at dksX1_raise_0 11 rfl rfl)
theorem dX1_raise_14 : decode cX1_raise 14 = .ok (.invokestatic 59, 3) := dk_184 0 59 (dk_at dksX1_raise_0 14 rfl rfl)
theorem dX1_raise_17 : decode cX1_raise 17 = .ok (.ifCond .eq 22, 3) := dk_153 0 22 (dk_at dksX1_raise_0 17 rfl rfl)
theorem dX1_raise_20 : decode cX1_raise 20 = .ok (.aload_n 0, 1) := dk_42 (dk_at dksX1_raise_0 20 rfl rfl)
theorem dX1_raise_21 : decode cX1_raise 21 = .ok (.iload_n 1, 1) := dk_27 (dk_at dksX1_raise_0 21 rfl rfl)
theorem dX1_raise_22 : decode cX1_raise 22 = .ok (.aload_n 0, 1) := dk_42 (dk_at dksX1_raise_0 22 rfl rfl)
theorem dX1_raise_23 : decode cX1_raise 23 = .ok (.getfield 7, 3) := dk_180 0 7 (dk_at dksX1_raise_1 0 rfl rfl)
theorem dX1_raise_26 : decode cX1_raise 26 = .ok (.bipush 9, 2) := dk_16 9 (dk_at dksX1_raise_1 3 rfl rfl)
theorem dX1_raise_28 : decode cX1_raise 28 = .ok (.iload_n 1, 1) := dk_27 (dk_at dksX1_raise_1 5 rfl rfl)
theorem dX1_raise_29 : decode cX1_raise 29 = .ok (.iadd, 1) := dk_96 (dk_at dksX1_raise_1 6 rfl rfl)
theorem dX1_raise_30 : decode cX1_raise 30 = .ok (.iaload, 1) := dk_46 (dk_at dksX1_raise_1 7 rfl rfl)
theorem dX1_raise_31 : decode cX1_raise 31 = .ok (.iload_n 2, 1) := dk_28 (dk_at dksX1_raise_1 8 rfl rfl)
theorem dX1_raise_32 : decode cX1_raise 32 = .ok (.iadd, 1) := dk_96 (dk_at dksX1_raise_1 9 rfl rfl)
theorem dX1_raise_33 : decode cX1_raise 33 = .ok (.invokevirtual 184, 3) := dk_182 0 184 (dk_at dksX1_raise_1 10 rfl rfl)
theorem dX1_raise_36 : decode cX1_raise 36 = .ok (.goto 4, 3) := dk_167 0 4 (dk_at dksX1_raise_1 13 rfl rfl)
theorem dX1_raise_39 : decode cX1_raise 39 = .ok (.iconst (-1), 1) := dk_2 (dk_at dksX1_raise_1 16 rfl rfl)
theorem dX1_raise_40 : decode cX1_raise 40 = .ok (.ireturn, 1) := dk_172 (dk_at dksX1_raise_1 17 rfl rfl)
abbrev cX1_makeDaring : ByteArray := prog_10_method_44_code
def yX1_makeDaring : MethodName := ⟨RX1, "makeDaring", "(II)I"⟩
def dkwX1_makeDaring_1 : List UInt8 := [160, 0, 6, 16, 254, 172, 42, 182, 0, 174, 42, 180, 0, 7, 16, 9, 27, 96, 28, 79, 28, 172]
abbrev dktX1_makeDaring_1 : List UInt8 := dkwX1_makeDaring_1 ++ []
def dkwX1_makeDaring_0 : List UInt8 := [28, 133, 9, 20, 0, 180, 184, 0, 59, 154, 0, 6, 16, 252, 172, 42, 180, 0, 7, 3, 46, 16, 40]
abbrev dktX1_makeDaring_0 : List UInt8 := dkwX1_makeDaring_0 ++ dktX1_makeDaring_1
theorem dksX1_makeDaring_0 : cX1_makeDaring.data.toList.drop 0 = dktX1_makeDaring_0 := by decide +kernel
theorem dksX1_makeDaring_1 : cX1_makeDaring.data.toList.drop 23 = dktX1_makeDaring_1 := dk_seg dksX1_makeDaring_0 23 rfl rfl
theorem dX1_makeDaring_0 : decode cX1_makeDaring 0 = .ok (.iload_n 2, 1) := dk_28 (dk_at dksX1_makeDaring_0 0 rfl rfl)
theorem dX1_makeDaring_1 : decode cX1_makeDaring 1 = .ok (.i2l, 1) := dk_133 (dk_at dksX1_makeDaring_0 1 rfl rfl)
theorem dX1_makeDaring_2 : decode cX1_makeDaring 2 = .ok (.lconst 0, 1) := dk_9 (dk_at dksX1_makeDaring_0 2 rfl rfl)
theorem dX1_makeDaring_3 : decode cX1_makeDaring 3 = .ok (.ldc2_w 180, 3) := dk_20 0 180 (dk_at dksX1_makeDaring_0 3 rfl rfl)
theorem dX1_makeDaring_6 : decode cX1_makeDaring 6 = .ok (.invokestatic 59, 3) := dk_184 0 59 (dk_at dksX1_makeDaring_0 6 rfl rfl)
theorem dX1_makeDaring_9 : decode cX1_makeDaring 9 = .ok (.ifCond .ne 6, 3) := dk_154 0 6 (dk_at dksX1_makeDaring_0 9 rfl rfl)
theorem dX1_makeDaring_12 : decode cX1_makeDaring 12 = .ok (.bipush (-4), 2) := dk_16 252 (dk_at dksX1_makeDaring_0 12 rfl rfl)
theorem dX1_makeDaring_14 : decode cX1_makeDaring 14 = .ok (.ireturn, 1) := dk_172 (dk_at dksX1_makeDaring_0 14 rfl rfl)
theorem dX1_makeDaring_15 : decode cX1_makeDaring 15 = .ok (.aload_n 0, 1) := dk_42 (dk_at dksX1_makeDaring_0 15 rfl rfl)
theorem dX1_makeDaring_16 : decode cX1_makeDaring 16 = .ok (.getfield 7, 3) := dk_180 0 7 (dk_at dksX1_makeDaring_0 16 rfl rfl)
theorem dX1_makeDaring_19 : decode cX1_makeDaring 19 = .ok (.iconst 0, 1) := dk_3 (dk_at dksX1_makeDaring_0 19 rfl rfl)
theorem dX1_makeDaring_20 : decode cX1_makeDaring 20 = .ok (.iaload, 1) := dk_46 (dk_at dksX1_makeDaring_0 20 rfl rfl)
theorem dX1_makeDaring_21 : decode cX1_makeDaring 21 = .ok (.bipush 40, 2) := dk_16 40 (dk_at dksX1_makeDaring_0 21 rfl rfl)
theorem dX1_makeDaring_23 : decode cX1_makeDaring 23 = .ok (.if_icmp .ne 6, 3) := dk_160 0 6 (dk_at dksX1_makeDaring_1 0 rfl rfl)
theorem dX1_makeDaring_26 : decode cX1_makeDaring 26 = .ok (.bipush (-2), 2) := dk_16 254 (dk_at dksX1_makeDaring_1 3 rfl rfl)
theorem dX1_makeDaring_28 : decode cX1_makeDaring 28 = .ok (.ireturn, 1) := dk_172 (dk_at dksX1_makeDaring_1 5 rfl rfl)
theorem dX1_makeDaring_29 : decode cX1_makeDaring 29 = .ok (.aload_n 0, 1) := dk_42 (dk_at dksX1_makeDaring_1 6 rfl rfl)
theorem dX1_makeDaring_30 : decode cX1_makeDaring 30 = .ok (.invokevirtual 174, 3) := dk_182 0 174 (dk_at dksX1_makeDaring_1 7 rfl rfl)
theorem dX1_makeDaring_33 : decode cX1_makeDaring 33 = .ok (.aload_n 0, 1) := dk_42 (dk_at dksX1_makeDaring_1 10 rfl rfl)
theorem dX1_makeDaring_34 : decode cX1_makeDaring 34 = .ok (.getfield 7, 3) := dk_180 0 7 (dk_at dksX1_makeDaring_1 11 rfl rfl)
theorem dX1_makeDaring_37 : decode cX1_makeDaring 37 = .ok (.bipush 9, 2) := dk_16 9 (dk_at dksX1_makeDaring_1 14 rfl rfl)
theorem dX1_makeDaring_39 : decode cX1_makeDaring 39 = .ok (.iload_n 1, 1) := dk_27 (dk_at dksX1_makeDaring_1 16 rfl rfl)
theorem dX1_makeDaring_40 : decode cX1_makeDaring 40 = .ok (.iadd, 1) := dk_96 (dk_at dksX1_makeDaring_1 17 rfl rfl)
theorem dX1_makeDaring_41 : decode cX1_makeDaring 41 = .ok (.iload_n 2, 1) := dk_28 (dk_at dksX1_makeDaring_1 18 rfl rfl)
theorem dX1_makeDaring_42 : decode cX1_makeDaring 42 = .ok (.iastore, 1) := dk_79 (dk_at dksX1_makeDaring_1 19 rfl rfl)
theorem dX1_makeDaring_43 : decode cX1_makeDaring 43 = .ok (.iload_n 2, 1) := dk_28 (dk_at dksX1_makeDaring_1 20 rfl rfl)
theorem dX1_makeDaring_44 : decode cX1_makeDaring 44 = .ok (.ireturn, 1) := dk_172 (dk_at dksX1_makeDaring_1 21 rfl rfl)
abbrev cX1_shame : ByteArray := prog_10_method_46_code
def yX1_shame : MethodName := ⟨RX1, "shame", "(II)I"⟩
def dkwX1_shame_1 : List UInt8 := [180, 0, 7, 16, 9, 27, 96, 46, 28, 100, 182, 0, 184, 167, 0, 4, 2, 172]
abbrev dktX1_shame_1 : List UInt8 := dkwX1_shame_1 ++ []
def dkwX1_shame_0 : List UInt8 := [42, 27, 182, 0, 162, 153, 0, 34, 28, 133, 10, 20, 0, 182, 184, 0, 59, 153, 0, 22, 42, 27, 42]
abbrev dktX1_shame_0 : List UInt8 := dkwX1_shame_0 ++ dktX1_shame_1
theorem dksX1_shame_0 : cX1_shame.data.toList.drop 0 = dktX1_shame_0 := by decide +kernel
theorem dksX1_shame_1 : cX1_shame.data.toList.drop 23 = dktX1_shame_1 := dk_seg dksX1_shame_0 23 rfl rfl
theorem dX1_shame_0 : decode cX1_shame 0 = .ok (.aload_n 0, 1) := dk_42 (dk_at dksX1_shame_0 0 rfl rfl)
theorem dX1_shame_1 : decode cX1_shame 1 = .ok (.iload_n 1, 1) := dk_27 (dk_at dksX1_shame_0 1 rfl rfl)
theorem dX1_shame_2 : decode cX1_shame 2 = .ok (.invokevirtual 162, 3) := dk_182 0 162 (dk_at dksX1_shame_0 2 rfl rfl)
theorem dX1_shame_5 : decode cX1_shame 5 = .ok (.ifCond .eq 34, 3) := dk_153 0 34 (dk_at dksX1_shame_0 5 rfl rfl)
theorem dX1_shame_8 : decode cX1_shame 8 = .ok (.iload_n 2, 1) := dk_28 (dk_at dksX1_shame_0 8 rfl rfl)
theorem dX1_shame_9 : decode cX1_shame 9 = .ok (.i2l, 1) := dk_133 (dk_at dksX1_shame_0 9 rfl rfl)
theorem dX1_shame_10 : decode cX1_shame 10 = .ok (.lconst 1, 1) := dk_10 (dk_at dksX1_shame_0 10 rfl rfl)
theorem dX1_shame_11 : decode cX1_shame 11 = .ok (.ldc2_w 182, 3) := dk_20 0 182 (dk_at dksX1_shame_0 11 rfl rfl)
theorem dX1_shame_14 : decode cX1_shame 14 = .ok (.invokestatic 59, 3) := dk_184 0 59 (dk_at dksX1_shame_0 14 rfl rfl)
theorem dX1_shame_17 : decode cX1_shame 17 = .ok (.ifCond .eq 22, 3) := dk_153 0 22 (dk_at dksX1_shame_0 17 rfl rfl)
theorem dX1_shame_20 : decode cX1_shame 20 = .ok (.aload_n 0, 1) := dk_42 (dk_at dksX1_shame_0 20 rfl rfl)
theorem dX1_shame_21 : decode cX1_shame 21 = .ok (.iload_n 1, 1) := dk_27 (dk_at dksX1_shame_0 21 rfl rfl)
theorem dX1_shame_22 : decode cX1_shame 22 = .ok (.aload_n 0, 1) := dk_42 (dk_at dksX1_shame_0 22 rfl rfl)
theorem dX1_shame_23 : decode cX1_shame 23 = .ok (.getfield 7, 3) := dk_180 0 7 (dk_at dksX1_shame_1 0 rfl rfl)
theorem dX1_shame_26 : decode cX1_shame 26 = .ok (.bipush 9, 2) := dk_16 9 (dk_at dksX1_shame_1 3 rfl rfl)
theorem dX1_shame_28 : decode cX1_shame 28 = .ok (.iload_n 1, 1) := dk_27 (dk_at dksX1_shame_1 5 rfl rfl)
theorem dX1_shame_29 : decode cX1_shame 29 = .ok (.iadd, 1) := dk_96 (dk_at dksX1_shame_1 6 rfl rfl)
theorem dX1_shame_30 : decode cX1_shame 30 = .ok (.iaload, 1) := dk_46 (dk_at dksX1_shame_1 7 rfl rfl)
theorem dX1_shame_31 : decode cX1_shame 31 = .ok (.iload_n 2, 1) := dk_28 (dk_at dksX1_shame_1 8 rfl rfl)
theorem dX1_shame_32 : decode cX1_shame 32 = .ok (.isub, 1) := dk_100 (dk_at dksX1_shame_1 9 rfl rfl)
theorem dX1_shame_33 : decode cX1_shame 33 = .ok (.invokevirtual 184, 3) := dk_182 0 184 (dk_at dksX1_shame_1 10 rfl rfl)
theorem dX1_shame_36 : decode cX1_shame 36 = .ok (.goto 4, 3) := dk_167 0 4 (dk_at dksX1_shame_1 13 rfl rfl)
theorem dX1_shame_39 : decode cX1_shame 39 = .ok (.iconst (-1), 1) := dk_2 (dk_at dksX1_shame_1 16 rfl rfl)
theorem dX1_shame_40 : decode cX1_shame 40 = .ok (.ireturn, 1) := dk_172 (dk_at dksX1_shame_1 17 rfl rfl)
abbrev cX1_door : ByteArray := prog_10_method_47_code
def yX1_door : MethodName := ⟨RX1, "door", "(II)I"⟩
def dkwX1_door_2 : List UInt8 := [160, 0, 6, 16, 254, 172, 42, 182, 0, 174, 42, 180, 0, 7, 6, 27, 96, 28, 79, 29, 172]
abbrev dktX1_door_2 : List UInt8 := dkwX1_door_2 ++ []
def dkwX1_door_1 : List UInt8 := [180, 0, 7, 6, 27, 96, 46, 62, 29, 28, 160, 0, 6, 16, 252, 172, 42, 180, 0, 7, 3, 46, 16, 40]
abbrev dktX1_door_1 : List UInt8 := dkwX1_door_1 ++ dktX1_door_2
def dkwX1_door_0 : List UInt8 := [42, 27, 182, 0, 162, 153, 0, 15, 28, 133, 9, 20, 0, 182, 184, 0, 59, 154, 0, 5, 2, 172, 42]
abbrev dktX1_door_0 : List UInt8 := dkwX1_door_0 ++ dktX1_door_1
theorem dksX1_door_0 : cX1_door.data.toList.drop 0 = dktX1_door_0 := by decide +kernel
theorem dksX1_door_1 : cX1_door.data.toList.drop 23 = dktX1_door_1 := dk_seg dksX1_door_0 23 rfl rfl
theorem dksX1_door_2 : cX1_door.data.toList.drop 47 = dktX1_door_2 := dk_seg dksX1_door_1 24 rfl rfl
theorem dX1_door_0 : decode cX1_door 0 = .ok (.aload_n 0, 1) := dk_42 (dk_at dksX1_door_0 0 rfl rfl)
theorem dX1_door_1 : decode cX1_door 1 = .ok (.iload_n 1, 1) := dk_27 (dk_at dksX1_door_0 1 rfl rfl)
theorem dX1_door_2 : decode cX1_door 2 = .ok (.invokevirtual 162, 3) := dk_182 0 162 (dk_at dksX1_door_0 2 rfl rfl)
theorem dX1_door_5 : decode cX1_door 5 = .ok (.ifCond .eq 15, 3) := dk_153 0 15 (dk_at dksX1_door_0 5 rfl rfl)
theorem dX1_door_8 : decode cX1_door 8 = .ok (.iload_n 2, 1) := dk_28 (dk_at dksX1_door_0 8 rfl rfl)
theorem dX1_door_9 : decode cX1_door 9 = .ok (.i2l, 1) := dk_133 (dk_at dksX1_door_0 9 rfl rfl)
theorem dX1_door_10 : decode cX1_door 10 = .ok (.lconst 0, 1) := dk_9 (dk_at dksX1_door_0 10 rfl rfl)
theorem dX1_door_11 : decode cX1_door 11 = .ok (.ldc2_w 182, 3) := dk_20 0 182 (dk_at dksX1_door_0 11 rfl rfl)
theorem dX1_door_14 : decode cX1_door 14 = .ok (.invokestatic 59, 3) := dk_184 0 59 (dk_at dksX1_door_0 14 rfl rfl)
theorem dX1_door_17 : decode cX1_door 17 = .ok (.ifCond .ne 5, 3) := dk_154 0 5 (dk_at dksX1_door_0 17 rfl rfl)
theorem dX1_door_20 : decode cX1_door 20 = .ok (.iconst (-1), 1) := dk_2 (dk_at dksX1_door_0 20 rfl rfl)
theorem dX1_door_21 : decode cX1_door 21 = .ok (.ireturn, 1) := dk_172 (dk_at dksX1_door_0 21 rfl rfl)
theorem dX1_door_22 : decode cX1_door 22 = .ok (.aload_n 0, 1) := dk_42 (dk_at dksX1_door_0 22 rfl rfl)
theorem dX1_door_23 : decode cX1_door 23 = .ok (.getfield 7, 3) := dk_180 0 7 (dk_at dksX1_door_1 0 rfl rfl)
theorem dX1_door_26 : decode cX1_door 26 = .ok (.iconst 3, 1) := dk_6 (dk_at dksX1_door_1 3 rfl rfl)
theorem dX1_door_27 : decode cX1_door 27 = .ok (.iload_n 1, 1) := dk_27 (dk_at dksX1_door_1 4 rfl rfl)
theorem dX1_door_28 : decode cX1_door 28 = .ok (.iadd, 1) := dk_96 (dk_at dksX1_door_1 5 rfl rfl)
theorem dX1_door_29 : decode cX1_door 29 = .ok (.iaload, 1) := dk_46 (dk_at dksX1_door_1 6 rfl rfl)
theorem dX1_door_30 : decode cX1_door 30 = .ok (.istore_n 3, 1) := dk_62 (dk_at dksX1_door_1 7 rfl rfl)
theorem dX1_door_31 : decode cX1_door 31 = .ok (.iload_n 3, 1) := dk_29 (dk_at dksX1_door_1 8 rfl rfl)
theorem dX1_door_32 : decode cX1_door 32 = .ok (.iload_n 2, 1) := dk_28 (dk_at dksX1_door_1 9 rfl rfl)
theorem dX1_door_33 : decode cX1_door 33 = .ok (.if_icmp .ne 6, 3) := dk_160 0 6 (dk_at dksX1_door_1 10 rfl rfl)
theorem dX1_door_36 : decode cX1_door 36 = .ok (.bipush (-4), 2) := dk_16 252 (dk_at dksX1_door_1 13 rfl rfl)
theorem dX1_door_38 : decode cX1_door 38 = .ok (.ireturn, 1) := dk_172 (dk_at dksX1_door_1 15 rfl rfl)
theorem dX1_door_39 : decode cX1_door 39 = .ok (.aload_n 0, 1) := dk_42 (dk_at dksX1_door_1 16 rfl rfl)
theorem dX1_door_40 : decode cX1_door 40 = .ok (.getfield 7, 3) := dk_180 0 7 (dk_at dksX1_door_1 17 rfl rfl)
theorem dX1_door_43 : decode cX1_door 43 = .ok (.iconst 0, 1) := dk_3 (dk_at dksX1_door_1 20 rfl rfl)
theorem dX1_door_44 : decode cX1_door 44 = .ok (.iaload, 1) := dk_46 (dk_at dksX1_door_1 21 rfl rfl)
theorem dX1_door_45 : decode cX1_door 45 = .ok (.bipush 40, 2) := dk_16 40 (dk_at dksX1_door_1 22 rfl rfl)
theorem dX1_door_47 : decode cX1_door 47 = .ok (.if_icmp .ne 6, 3) := dk_160 0 6 (dk_at dksX1_door_2 0 rfl rfl)
theorem dX1_door_50 : decode cX1_door 50 = .ok (.bipush (-2), 2) := dk_16 254 (dk_at dksX1_door_2 3 rfl rfl)
theorem dX1_door_52 : decode cX1_door 52 = .ok (.ireturn, 1) := dk_172 (dk_at dksX1_door_2 5 rfl rfl)
theorem dX1_door_53 : decode cX1_door 53 = .ok (.aload_n 0, 1) := dk_42 (dk_at dksX1_door_2 6 rfl rfl)
theorem dX1_door_54 : decode cX1_door 54 = .ok (.invokevirtual 174, 3) := dk_182 0 174 (dk_at dksX1_door_2 7 rfl rfl)
theorem dX1_door_57 : decode cX1_door 57 = .ok (.aload_n 0, 1) := dk_42 (dk_at dksX1_door_2 10 rfl rfl)
theorem dX1_door_58 : decode cX1_door 58 = .ok (.getfield 7, 3) := dk_180 0 7 (dk_at dksX1_door_2 11 rfl rfl)
theorem dX1_door_61 : decode cX1_door 61 = .ok (.iconst 3, 1) := dk_6 (dk_at dksX1_door_2 14 rfl rfl)
theorem dX1_door_62 : decode cX1_door 62 = .ok (.iload_n 1, 1) := dk_27 (dk_at dksX1_door_2 15 rfl rfl)
theorem dX1_door_63 : decode cX1_door 63 = .ok (.iadd, 1) := dk_96 (dk_at dksX1_door_2 16 rfl rfl)
theorem dX1_door_64 : decode cX1_door 64 = .ok (.iload_n 2, 1) := dk_28 (dk_at dksX1_door_2 17 rfl rfl)
theorem dX1_door_65 : decode cX1_door 65 = .ok (.iastore, 1) := dk_79 (dk_at dksX1_door_2 18 rfl rfl)
theorem dX1_door_66 : decode cX1_door 66 = .ok (.iload_n 3, 1) := dk_29 (dk_at dksX1_door_2 19 rfl rfl)
theorem dX1_door_67 : decode cX1_door 67 = .ok (.ireturn, 1) := dk_172 (dk_at dksX1_door_2 20 rfl rfl)
abbrev cX1_undo : ByteArray := prog_10_method_48_code
def yX1_undo : MethodName := ⟨RX1, "undo", "(I)I"⟩
def dkwX1_undo_3 : List UInt8 := [3, 27, 79, 28, 172]
abbrev dktX1_undo_3 : List UInt8 := dkwX1_undo_3 ++ []
def dkwX1_undo_2 : List UInt8 := [180, 0, 7, 16, 21, 16, 20, 27, 104, 96, 29, 96, 46, 79, 132, 3, 1, 167, 255, 221, 42, 180, 0, 7]
abbrev dktX1_undo_2 : List UInt8 := dkwX1_undo_2 ++ dktX1_undo_3
def dkwX1_undo_1 : List UInt8 := [27, 100, 61, 3, 62, 29, 16, 20, 162, 0, 35, 28, 158, 0, 31, 42, 180, 0, 7, 4, 29, 96, 42]
abbrev dktX1_undo_1 : List UInt8 := dkwX1_undo_1 ++ dktX1_undo_2
def dkwX1_undo_0 : List UInt8 := [27, 133, 9, 42, 180, 0, 7, 3, 46, 133, 184, 0, 59, 154, 0, 5, 2, 172, 42, 180, 0, 7, 3, 46]
abbrev dktX1_undo_0 : List UInt8 := dkwX1_undo_0 ++ dktX1_undo_1
theorem dksX1_undo_0 : cX1_undo.data.toList.drop 0 = dktX1_undo_0 := by decide +kernel
theorem dksX1_undo_1 : cX1_undo.data.toList.drop 24 = dktX1_undo_1 := dk_seg dksX1_undo_0 24 rfl rfl
theorem dksX1_undo_2 : cX1_undo.data.toList.drop 47 = dktX1_undo_2 := dk_seg dksX1_undo_1 23 rfl rfl
theorem dksX1_undo_3 : cX1_undo.data.toList.drop 71 = dktX1_undo_3 := dk_seg dksX1_undo_2 24 rfl rfl
theorem dX1_undo_0 : decode cX1_undo 0 = .ok (.iload_n 1, 1) := dk_27 (dk_at dksX1_undo_0 0 rfl rfl)
theorem dX1_undo_1 : decode cX1_undo 1 = .ok (.i2l, 1) := dk_133 (dk_at dksX1_undo_0 1 rfl rfl)
theorem dX1_undo_2 : decode cX1_undo 2 = .ok (.lconst 0, 1) := dk_9 (dk_at dksX1_undo_0 2 rfl rfl)
theorem dX1_undo_3 : decode cX1_undo 3 = .ok (.aload_n 0, 1) := dk_42 (dk_at dksX1_undo_0 3 rfl rfl)
theorem dX1_undo_4 : decode cX1_undo 4 = .ok (.getfield 7, 3) := dk_180 0 7 (dk_at dksX1_undo_0 4 rfl rfl)
theorem dX1_undo_7 : decode cX1_undo 7 = .ok (.iconst 0, 1) := dk_3 (dk_at dksX1_undo_0 7 rfl rfl)
theorem dX1_undo_8 : decode cX1_undo 8 = .ok (.iaload, 1) := dk_46 (dk_at dksX1_undo_0 8 rfl rfl)
theorem dX1_undo_9 : decode cX1_undo 9 = .ok (.i2l, 1) := dk_133 (dk_at dksX1_undo_0 9 rfl rfl)
theorem dX1_undo_10 : decode cX1_undo 10 = .ok (.invokestatic 59, 3) := dk_184 0 59 (dk_at dksX1_undo_0 10 rfl rfl)
theorem dX1_undo_13 : decode cX1_undo 13 = .ok (.ifCond .ne 5, 3) := dk_154 0 5 (dk_at dksX1_undo_0 13 rfl rfl)
theorem dX1_undo_16 : decode cX1_undo 16 = .ok (.iconst (-1), 1) := dk_2 (dk_at dksX1_undo_0 16 rfl rfl)
theorem dX1_undo_17 : decode cX1_undo 17 = .ok (.ireturn, 1) := dk_172 (dk_at dksX1_undo_0 17 rfl rfl)
theorem dX1_undo_18 : decode cX1_undo 18 = .ok (.aload_n 0, 1) := dk_42 (dk_at dksX1_undo_0 18 rfl rfl)
theorem dX1_undo_19 : decode cX1_undo 19 = .ok (.getfield 7, 3) := dk_180 0 7 (dk_at dksX1_undo_0 19 rfl rfl)
theorem dX1_undo_22 : decode cX1_undo 22 = .ok (.iconst 0, 1) := dk_3 (dk_at dksX1_undo_0 22 rfl rfl)
theorem dX1_undo_23 : decode cX1_undo 23 = .ok (.iaload, 1) := dk_46 (dk_at dksX1_undo_0 23 rfl rfl)
theorem dX1_undo_24 : decode cX1_undo 24 = .ok (.iload_n 1, 1) := dk_27 (dk_at dksX1_undo_1 0 rfl rfl)
theorem dX1_undo_25 : decode cX1_undo 25 = .ok (.isub, 1) := dk_100 (dk_at dksX1_undo_1 1 rfl rfl)
theorem dX1_undo_26 : decode cX1_undo 26 = .ok (.istore_n 2, 1) := dk_61 (dk_at dksX1_undo_1 2 rfl rfl)
theorem dX1_undo_27 : decode cX1_undo 27 = .ok (.iconst 0, 1) := dk_3 (dk_at dksX1_undo_1 3 rfl rfl)
theorem dX1_undo_28 : decode cX1_undo 28 = .ok (.istore_n 3, 1) := dk_62 (dk_at dksX1_undo_1 4 rfl rfl)
theorem dX1_undo_29 : decode cX1_undo 29 = .ok (.iload_n 3, 1) := dk_29 (dk_at dksX1_undo_1 5 rfl rfl)
theorem dX1_undo_30 : decode cX1_undo 30 = .ok (.bipush 20, 2) := dk_16 20 (dk_at dksX1_undo_1 6 rfl rfl)
theorem dX1_undo_32 : decode cX1_undo 32 = .ok (.if_icmp .ge 35, 3) := dk_162 0 35 (dk_at dksX1_undo_1 8 rfl rfl)
theorem dX1_undo_35 : decode cX1_undo 35 = .ok (.iload_n 2, 1) := dk_28 (dk_at dksX1_undo_1 11 rfl rfl)
theorem dX1_undo_36 : decode cX1_undo 36 = .ok (.ifCond .le 31, 3) := dk_158 0 31 (dk_at dksX1_undo_1 12 rfl rfl)
theorem dX1_undo_39 : decode cX1_undo 39 = .ok (.aload_n 0, 1) := dk_42 (dk_at dksX1_undo_1 15 rfl rfl)
theorem dX1_undo_40 : decode cX1_undo 40 = .ok (.getfield 7, 3) := dk_180 0 7 (dk_at dksX1_undo_1 16 rfl rfl)
theorem dX1_undo_43 : decode cX1_undo 43 = .ok (.iconst 1, 1) := dk_4 (dk_at dksX1_undo_1 19 rfl rfl)
theorem dX1_undo_44 : decode cX1_undo 44 = .ok (.iload_n 3, 1) := dk_29 (dk_at dksX1_undo_1 20 rfl rfl)
theorem dX1_undo_45 : decode cX1_undo 45 = .ok (.iadd, 1) := dk_96 (dk_at dksX1_undo_1 21 rfl rfl)
theorem dX1_undo_46 : decode cX1_undo 46 = .ok (.aload_n 0, 1) := dk_42 (dk_at dksX1_undo_1 22 rfl rfl)
theorem dX1_undo_47 : decode cX1_undo 47 = .ok (.getfield 7, 3) := dk_180 0 7 (dk_at dksX1_undo_2 0 rfl rfl)
theorem dX1_undo_50 : decode cX1_undo 50 = .ok (.bipush 21, 2) := dk_16 21 (dk_at dksX1_undo_2 3 rfl rfl)
theorem dX1_undo_52 : decode cX1_undo 52 = .ok (.bipush 20, 2) := dk_16 20 (dk_at dksX1_undo_2 5 rfl rfl)
theorem dX1_undo_54 : decode cX1_undo 54 = .ok (.iload_n 1, 1) := dk_27 (dk_at dksX1_undo_2 7 rfl rfl)
theorem dX1_undo_55 : decode cX1_undo 55 = .ok (.imul, 1) := dk_104 (dk_at dksX1_undo_2 8 rfl rfl)
theorem dX1_undo_56 : decode cX1_undo 56 = .ok (.iadd, 1) := dk_96 (dk_at dksX1_undo_2 9 rfl rfl)
theorem dX1_undo_57 : decode cX1_undo 57 = .ok (.iload_n 3, 1) := dk_29 (dk_at dksX1_undo_2 10 rfl rfl)
theorem dX1_undo_58 : decode cX1_undo 58 = .ok (.iadd, 1) := dk_96 (dk_at dksX1_undo_2 11 rfl rfl)
theorem dX1_undo_59 : decode cX1_undo 59 = .ok (.iaload, 1) := dk_46 (dk_at dksX1_undo_2 12 rfl rfl)
theorem dX1_undo_60 : decode cX1_undo 60 = .ok (.iastore, 1) := dk_79 (dk_at dksX1_undo_2 13 rfl rfl)
theorem dX1_undo_61 : decode cX1_undo 61 = .ok (.iinc 3 1, 3) := dk_132 3 1 (dk_at dksX1_undo_2 14 rfl rfl)
theorem dX1_undo_64 : decode cX1_undo 64 = .ok (.goto (-35), 3) := dk_167 255 221 (dk_at dksX1_undo_2 17 rfl rfl)
theorem dX1_undo_67 : decode cX1_undo 67 = .ok (.aload_n 0, 1) := dk_42 (dk_at dksX1_undo_2 20 rfl rfl)
theorem dX1_undo_68 : decode cX1_undo 68 = .ok (.getfield 7, 3) := dk_180 0 7 (dk_at dksX1_undo_2 21 rfl rfl)
theorem dX1_undo_71 : decode cX1_undo 71 = .ok (.iconst 0, 1) := dk_3 (dk_at dksX1_undo_3 0 rfl rfl)
theorem dX1_undo_72 : decode cX1_undo 72 = .ok (.iload_n 1, 1) := dk_27 (dk_at dksX1_undo_3 1 rfl rfl)
theorem dX1_undo_73 : decode cX1_undo 73 = .ok (.iastore, 1) := dk_79 (dk_at dksX1_undo_3 2 rfl rfl)
theorem dX1_undo_74 : decode cX1_undo 74 = .ok (.iload_n 2, 1) := dk_28 (dk_at dksX1_undo_3 3 rfl rfl)
theorem dX1_undo_75 : decode cX1_undo 75 = .ok (.ireturn, 1) := dk_172 (dk_at dksX1_undo_3 4 rfl rfl)
abbrev cX1_keep : ByteArray := prog_10_method_50_code
def yX1_keep : MethodName := ⟨RX1, "keep", "(I)I"⟩
def dkwX1_keep_1 : List UInt8 := [42, 3, 17, 3, 53, 4, 27, 96, 104, 182, 0, 189, 42, 180, 0, 7, 3, 46, 172]
abbrev dktX1_keep_1 : List UInt8 := dkwX1_keep_1 ++ []
def dkwX1_keep_0 : List UInt8 := [27, 133, 9, 20, 0, 187, 184, 0, 59, 154, 0, 5, 2, 172, 42, 180, 0, 136, 154, 0, 6, 16, 252, 172]
abbrev dktX1_keep_0 : List UInt8 := dkwX1_keep_0 ++ dktX1_keep_1
theorem dksX1_keep_0 : cX1_keep.data.toList.drop 0 = dktX1_keep_0 := by decide +kernel
theorem dksX1_keep_1 : cX1_keep.data.toList.drop 24 = dktX1_keep_1 := dk_seg dksX1_keep_0 24 rfl rfl
theorem dX1_keep_0 : decode cX1_keep 0 = .ok (.iload_n 1, 1) := dk_27 (dk_at dksX1_keep_0 0 rfl rfl)
theorem dX1_keep_1 : decode cX1_keep 1 = .ok (.i2l, 1) := dk_133 (dk_at dksX1_keep_0 1 rfl rfl)
theorem dX1_keep_2 : decode cX1_keep 2 = .ok (.lconst 0, 1) := dk_9 (dk_at dksX1_keep_0 2 rfl rfl)
theorem dX1_keep_3 : decode cX1_keep 3 = .ok (.ldc2_w 187, 3) := dk_20 0 187 (dk_at dksX1_keep_0 3 rfl rfl)
theorem dX1_keep_6 : decode cX1_keep 6 = .ok (.invokestatic 59, 3) := dk_184 0 59 (dk_at dksX1_keep_0 6 rfl rfl)
theorem dX1_keep_9 : decode cX1_keep 9 = .ok (.ifCond .ne 5, 3) := dk_154 0 5 (dk_at dksX1_keep_0 9 rfl rfl)
theorem dX1_keep_12 : decode cX1_keep 12 = .ok (.iconst (-1), 1) := dk_2 (dk_at dksX1_keep_0 12 rfl rfl)
theorem dX1_keep_13 : decode cX1_keep 13 = .ok (.ireturn, 1) := dk_172 (dk_at dksX1_keep_0 13 rfl rfl)
theorem dX1_keep_14 : decode cX1_keep 14 = .ok (.aload_n 0, 1) := dk_42 (dk_at dksX1_keep_0 14 rfl rfl)
theorem dX1_keep_15 : decode cX1_keep 15 = .ok (.getfield 136, 3) := dk_180 0 136 (dk_at dksX1_keep_0 15 rfl rfl)
theorem dX1_keep_18 : decode cX1_keep 18 = .ok (.ifCond .ne 6, 3) := dk_154 0 6 (dk_at dksX1_keep_0 18 rfl rfl)
theorem dX1_keep_21 : decode cX1_keep 21 = .ok (.bipush (-4), 2) := dk_16 252 (dk_at dksX1_keep_0 21 rfl rfl)
theorem dX1_keep_23 : decode cX1_keep 23 = .ok (.ireturn, 1) := dk_172 (dk_at dksX1_keep_0 23 rfl rfl)
theorem dX1_keep_24 : decode cX1_keep 24 = .ok (.aload_n 0, 1) := dk_42 (dk_at dksX1_keep_1 0 rfl rfl)
theorem dX1_keep_25 : decode cX1_keep 25 = .ok (.iconst 0, 1) := dk_3 (dk_at dksX1_keep_1 1 rfl rfl)
theorem dX1_keep_26 : decode cX1_keep 26 = .ok (.sipush 821, 3) := dk_17 3 53 (dk_at dksX1_keep_1 2 rfl rfl)
theorem dX1_keep_29 : decode cX1_keep 29 = .ok (.iconst 1, 1) := dk_4 (dk_at dksX1_keep_1 5 rfl rfl)
theorem dX1_keep_30 : decode cX1_keep 30 = .ok (.iload_n 1, 1) := dk_27 (dk_at dksX1_keep_1 6 rfl rfl)
theorem dX1_keep_31 : decode cX1_keep 31 = .ok (.iadd, 1) := dk_96 (dk_at dksX1_keep_1 7 rfl rfl)
theorem dX1_keep_32 : decode cX1_keep 32 = .ok (.imul, 1) := dk_104 (dk_at dksX1_keep_1 8 rfl rfl)
theorem dX1_keep_33 : decode cX1_keep 33 = .ok (.invokevirtual 189, 3) := dk_182 0 189 (dk_at dksX1_keep_1 9 rfl rfl)
theorem dX1_keep_36 : decode cX1_keep 36 = .ok (.aload_n 0, 1) := dk_42 (dk_at dksX1_keep_1 12 rfl rfl)
theorem dX1_keep_37 : decode cX1_keep 37 = .ok (.getfield 7, 3) := dk_180 0 7 (dk_at dksX1_keep_1 13 rfl rfl)
theorem dX1_keep_40 : decode cX1_keep 40 = .ok (.iconst 0, 1) := dk_3 (dk_at dksX1_keep_1 16 rfl rfl)
theorem dX1_keep_41 : decode cX1_keep 41 = .ok (.iaload, 1) := dk_46 (dk_at dksX1_keep_1 17 rfl rfl)
theorem dX1_keep_42 : decode cX1_keep 42 = .ok (.ireturn, 1) := dk_172 (dk_at dksX1_keep_1 18 rfl rfl)
abbrev cX1_copyRiver : ByteArray := prog_10_method_49_code
def yX1_copyRiver : MethodName := ⟨RX1, "copyRiver", "(II)V"⟩
def dkwX1_copyRiver_1 : List UInt8 := [79, 132, 3, 1, 167, 255, 230, 177]
abbrev dktX1_copyRiver_1 : List UInt8 := dkwX1_copyRiver_1 ++ []
def dkwX1_copyRiver_0 : List UInt8 := [3, 62, 29, 17, 3, 53, 162, 0, 25, 42, 180, 0, 7, 28, 29, 96, 42, 180, 0, 7, 27, 29, 96, 46]
abbrev dktX1_copyRiver_0 : List UInt8 := dkwX1_copyRiver_0 ++ dktX1_copyRiver_1
theorem dksX1_copyRiver_0 : cX1_copyRiver.data.toList.drop 0 = dktX1_copyRiver_0 := by decide +kernel
theorem dksX1_copyRiver_1 : cX1_copyRiver.data.toList.drop 24 = dktX1_copyRiver_1 := dk_seg dksX1_copyRiver_0 24 rfl rfl
theorem dX1_copyRiver_0 : decode cX1_copyRiver 0 = .ok (.iconst 0, 1) := dk_3 (dk_at dksX1_copyRiver_0 0 rfl rfl)
theorem dX1_copyRiver_1 : decode cX1_copyRiver 1 = .ok (.istore_n 3, 1) := dk_62 (dk_at dksX1_copyRiver_0 1 rfl rfl)
theorem dX1_copyRiver_2 : decode cX1_copyRiver 2 = .ok (.iload_n 3, 1) := dk_29 (dk_at dksX1_copyRiver_0 2 rfl rfl)
theorem dX1_copyRiver_3 : decode cX1_copyRiver 3 = .ok (.sipush 821, 3) := dk_17 3 53 (dk_at dksX1_copyRiver_0 3 rfl rfl)
theorem dX1_copyRiver_6 : decode cX1_copyRiver 6 = .ok (.if_icmp .ge 25, 3) := dk_162 0 25 (dk_at dksX1_copyRiver_0 6 rfl rfl)
theorem dX1_copyRiver_9 : decode cX1_copyRiver 9 = .ok (.aload_n 0, 1) := dk_42 (dk_at dksX1_copyRiver_0 9 rfl rfl)
theorem dX1_copyRiver_10 : decode cX1_copyRiver 10 = .ok (.getfield 7, 3) := dk_180 0 7 (dk_at dksX1_copyRiver_0 10 rfl rfl)
theorem dX1_copyRiver_13 : decode cX1_copyRiver 13 = .ok (.iload_n 2, 1) := dk_28 (dk_at dksX1_copyRiver_0 13 rfl rfl)
theorem dX1_copyRiver_14 : decode cX1_copyRiver 14 = .ok (.iload_n 3, 1) := dk_29 (dk_at dksX1_copyRiver_0 14 rfl rfl)
theorem dX1_copyRiver_15 : decode cX1_copyRiver 15 = .ok (.iadd, 1) := dk_96 (dk_at dksX1_copyRiver_0 15 rfl rfl)
theorem dX1_copyRiver_16 : decode cX1_copyRiver 16 = .ok (.aload_n 0, 1) := dk_42 (dk_at dksX1_copyRiver_0 16 rfl rfl)
theorem dX1_copyRiver_17 : decode cX1_copyRiver 17 = .ok (.getfield 7, 3) := dk_180 0 7 (dk_at dksX1_copyRiver_0 17 rfl rfl)
theorem dX1_copyRiver_20 : decode cX1_copyRiver 20 = .ok (.iload_n 1, 1) := dk_27 (dk_at dksX1_copyRiver_0 20 rfl rfl)
theorem dX1_copyRiver_21 : decode cX1_copyRiver 21 = .ok (.iload_n 3, 1) := dk_29 (dk_at dksX1_copyRiver_0 21 rfl rfl)
theorem dX1_copyRiver_22 : decode cX1_copyRiver 22 = .ok (.iadd, 1) := dk_96 (dk_at dksX1_copyRiver_0 22 rfl rfl)
theorem dX1_copyRiver_23 : decode cX1_copyRiver 23 = .ok (.iaload, 1) := dk_46 (dk_at dksX1_copyRiver_0 23 rfl rfl)
theorem dX1_copyRiver_24 : decode cX1_copyRiver 24 = .ok (.iastore, 1) := dk_79 (dk_at dksX1_copyRiver_1 0 rfl rfl)
theorem dX1_copyRiver_25 : decode cX1_copyRiver 25 = .ok (.iinc 3 1, 3) := dk_132 3 1 (dk_at dksX1_copyRiver_1 1 rfl rfl)
theorem dX1_copyRiver_28 : decode cX1_copyRiver 28 = .ok (.goto (-26), 3) := dk_167 255 230 (dk_at dksX1_copyRiver_1 4 rfl rfl)
theorem dX1_copyRiver_31 : decode cX1_copyRiver 31 = .ok (.return_, 1) := dk_177 (dk_at dksX1_copyRiver_1 7 rfl rfl)
abbrev cX1_on : ByteArray := prog_10_method_51_code
def yX1_on : MethodName := ⟨RX1, "on", "(I)I"⟩
def dkwX1_on_2 : List UInt8 := [182, 0, 189, 42, 180, 0, 7, 3, 46, 172]
abbrev dktX1_on_2 : List UInt8 := dkwX1_on_2 ++ []
def dkwX1_on_1 : List UInt8 := [104, 3, 96, 46, 156, 0, 9, 42, 4, 182, 0, 69, 172, 42, 17, 3, 53, 4, 27, 96, 104, 3]
abbrev dktX1_on_1 : List UInt8 := dkwX1_on_1 ++ dktX1_on_2
def dkwX1_on_0 : List UInt8 := [27, 133, 9, 20, 0, 187, 184, 0, 59, 154, 0, 5, 2, 172, 42, 180, 0, 7, 17, 3, 53, 4, 27, 96]
abbrev dktX1_on_0 : List UInt8 := dkwX1_on_0 ++ dktX1_on_1
theorem dksX1_on_0 : cX1_on.data.toList.drop 0 = dktX1_on_0 := by decide +kernel
theorem dksX1_on_1 : cX1_on.data.toList.drop 24 = dktX1_on_1 := dk_seg dksX1_on_0 24 rfl rfl
theorem dksX1_on_2 : cX1_on.data.toList.drop 46 = dktX1_on_2 := dk_seg dksX1_on_1 22 rfl rfl
theorem dX1_on_0 : decode cX1_on 0 = .ok (.iload_n 1, 1) := dk_27 (dk_at dksX1_on_0 0 rfl rfl)
theorem dX1_on_1 : decode cX1_on 1 = .ok (.i2l, 1) := dk_133 (dk_at dksX1_on_0 1 rfl rfl)
theorem dX1_on_2 : decode cX1_on 2 = .ok (.lconst 0, 1) := dk_9 (dk_at dksX1_on_0 2 rfl rfl)
theorem dX1_on_3 : decode cX1_on 3 = .ok (.ldc2_w 187, 3) := dk_20 0 187 (dk_at dksX1_on_0 3 rfl rfl)
theorem dX1_on_6 : decode cX1_on 6 = .ok (.invokestatic 59, 3) := dk_184 0 59 (dk_at dksX1_on_0 6 rfl rfl)
theorem dX1_on_9 : decode cX1_on 9 = .ok (.ifCond .ne 5, 3) := dk_154 0 5 (dk_at dksX1_on_0 9 rfl rfl)
theorem dX1_on_12 : decode cX1_on 12 = .ok (.iconst (-1), 1) := dk_2 (dk_at dksX1_on_0 12 rfl rfl)
theorem dX1_on_13 : decode cX1_on 13 = .ok (.ireturn, 1) := dk_172 (dk_at dksX1_on_0 13 rfl rfl)
theorem dX1_on_14 : decode cX1_on 14 = .ok (.aload_n 0, 1) := dk_42 (dk_at dksX1_on_0 14 rfl rfl)
theorem dX1_on_15 : decode cX1_on 15 = .ok (.getfield 7, 3) := dk_180 0 7 (dk_at dksX1_on_0 15 rfl rfl)
theorem dX1_on_18 : decode cX1_on 18 = .ok (.sipush 821, 3) := dk_17 3 53 (dk_at dksX1_on_0 18 rfl rfl)
theorem dX1_on_21 : decode cX1_on 21 = .ok (.iconst 1, 1) := dk_4 (dk_at dksX1_on_0 21 rfl rfl)
theorem dX1_on_22 : decode cX1_on 22 = .ok (.iload_n 1, 1) := dk_27 (dk_at dksX1_on_0 22 rfl rfl)
theorem dX1_on_23 : decode cX1_on 23 = .ok (.iadd, 1) := dk_96 (dk_at dksX1_on_0 23 rfl rfl)
theorem dX1_on_24 : decode cX1_on 24 = .ok (.imul, 1) := dk_104 (dk_at dksX1_on_1 0 rfl rfl)
theorem dX1_on_25 : decode cX1_on 25 = .ok (.iconst 0, 1) := dk_3 (dk_at dksX1_on_1 1 rfl rfl)
theorem dX1_on_26 : decode cX1_on 26 = .ok (.iadd, 1) := dk_96 (dk_at dksX1_on_1 2 rfl rfl)
theorem dX1_on_27 : decode cX1_on 27 = .ok (.iaload, 1) := dk_46 (dk_at dksX1_on_1 3 rfl rfl)
theorem dX1_on_28 : decode cX1_on 28 = .ok (.ifCond .ge 9, 3) := dk_156 0 9 (dk_at dksX1_on_1 4 rfl rfl)
theorem dX1_on_31 : decode cX1_on 31 = .ok (.aload_n 0, 1) := dk_42 (dk_at dksX1_on_1 7 rfl rfl)
theorem dX1_on_32 : decode cX1_on 32 = .ok (.iconst 1, 1) := dk_4 (dk_at dksX1_on_1 8 rfl rfl)
theorem dX1_on_33 : decode cX1_on 33 = .ok (.invokevirtual 69, 3) := dk_182 0 69 (dk_at dksX1_on_1 9 rfl rfl)
theorem dX1_on_36 : decode cX1_on 36 = .ok (.ireturn, 1) := dk_172 (dk_at dksX1_on_1 12 rfl rfl)
theorem dX1_on_37 : decode cX1_on 37 = .ok (.aload_n 0, 1) := dk_42 (dk_at dksX1_on_1 13 rfl rfl)
theorem dX1_on_38 : decode cX1_on 38 = .ok (.sipush 821, 3) := dk_17 3 53 (dk_at dksX1_on_1 14 rfl rfl)
theorem dX1_on_41 : decode cX1_on 41 = .ok (.iconst 1, 1) := dk_4 (dk_at dksX1_on_1 17 rfl rfl)
theorem dX1_on_42 : decode cX1_on 42 = .ok (.iload_n 1, 1) := dk_27 (dk_at dksX1_on_1 18 rfl rfl)
theorem dX1_on_43 : decode cX1_on 43 = .ok (.iadd, 1) := dk_96 (dk_at dksX1_on_1 19 rfl rfl)
theorem dX1_on_44 : decode cX1_on 44 = .ok (.imul, 1) := dk_104 (dk_at dksX1_on_1 20 rfl rfl)
theorem dX1_on_45 : decode cX1_on 45 = .ok (.iconst 0, 1) := dk_3 (dk_at dksX1_on_1 21 rfl rfl)
theorem dX1_on_46 : decode cX1_on 46 = .ok (.invokevirtual 189, 3) := dk_182 0 189 (dk_at dksX1_on_2 0 rfl rfl)
theorem dX1_on_49 : decode cX1_on 49 = .ok (.aload_n 0, 1) := dk_42 (dk_at dksX1_on_2 3 rfl rfl)
theorem dX1_on_50 : decode cX1_on 50 = .ok (.getfield 7, 3) := dk_180 0 7 (dk_at dksX1_on_2 4 rfl rfl)
theorem dX1_on_53 : decode cX1_on 53 = .ok (.iconst 0, 1) := dk_3 (dk_at dksX1_on_2 7 rfl rfl)
theorem dX1_on_54 : decode cX1_on 54 = .ok (.iaload, 1) := dk_46 (dk_at dksX1_on_2 8 rfl rfl)
theorem dX1_on_55 : decode cX1_on 55 = .ok (.ireturn, 1) := dk_172 (dk_at dksX1_on_2 9 rfl rfl)
abbrev cX1_dares : ByteArray := prog_10_method_53_code
def yX1_dares : MethodName := ⟨RX1, "dares", "(IIII)I"⟩
def dkwX1_dares_2 : List UInt8 := [180, 0, 13, 27, 46, 28, 29, 21, 4, 184, 0, 145, 167, 0, 4, 2, 172]
abbrev dktX1_dares_2 : List UInt8 := dkwX1_dares_2 ++ []
def dkwX1_dares_1 : List UInt8 := [20, 0, 192, 184, 0, 59, 153, 0, 32, 21, 4, 133, 9, 20, 0, 182, 184, 0, 59, 153, 0, 19, 42]
abbrev dktX1_dares_1 : List UInt8 := dkwX1_dares_1 ++ dktX1_dares_2
def dkwX1_dares_0 : List UInt8 := [42, 27, 182, 0, 162, 153, 0, 56, 28, 133, 9, 20, 0, 180, 184, 0, 59, 153, 0, 44, 29, 133, 9]
abbrev dktX1_dares_0 : List UInt8 := dkwX1_dares_0 ++ dktX1_dares_1
theorem dksX1_dares_0 : cX1_dares.data.toList.drop 0 = dktX1_dares_0 := by decide +kernel
theorem dksX1_dares_1 : cX1_dares.data.toList.drop 23 = dktX1_dares_1 := dk_seg dksX1_dares_0 23 rfl rfl
theorem dksX1_dares_2 : cX1_dares.data.toList.drop 46 = dktX1_dares_2 := dk_seg dksX1_dares_1 23 rfl rfl
theorem dX1_dares_0 : decode cX1_dares 0 = .ok (.aload_n 0, 1) := dk_42 (dk_at dksX1_dares_0 0 rfl rfl)
theorem dX1_dares_1 : decode cX1_dares 1 = .ok (.iload_n 1, 1) := dk_27 (dk_at dksX1_dares_0 1 rfl rfl)
theorem dX1_dares_2 : decode cX1_dares 2 = .ok (.invokevirtual 162, 3) := dk_182 0 162 (dk_at dksX1_dares_0 2 rfl rfl)
theorem dX1_dares_5 : decode cX1_dares 5 = .ok (.ifCond .eq 56, 3) := dk_153 0 56 (dk_at dksX1_dares_0 5 rfl rfl)
theorem dX1_dares_8 : decode cX1_dares 8 = .ok (.iload_n 2, 1) := dk_28 (dk_at dksX1_dares_0 8 rfl rfl)
theorem dX1_dares_9 : decode cX1_dares 9 = .ok (.i2l, 1) := dk_133 (dk_at dksX1_dares_0 9 rfl rfl)
theorem dX1_dares_10 : decode cX1_dares 10 = .ok (.lconst 0, 1) := dk_9 (dk_at dksX1_dares_0 10 rfl rfl)
theorem dX1_dares_11 : decode cX1_dares 11 = .ok (.ldc2_w 180, 3) := dk_20 0 180 (dk_at dksX1_dares_0 11 rfl rfl)
theorem dX1_dares_14 : decode cX1_dares 14 = .ok (.invokestatic 59, 3) := dk_184 0 59 (dk_at dksX1_dares_0 14 rfl rfl)
theorem dX1_dares_17 : decode cX1_dares 17 = .ok (.ifCond .eq 44, 3) := dk_153 0 44 (dk_at dksX1_dares_0 17 rfl rfl)
theorem dX1_dares_20 : decode cX1_dares 20 = .ok (.iload_n 3, 1) := dk_29 (dk_at dksX1_dares_0 20 rfl rfl)
theorem dX1_dares_21 : decode cX1_dares 21 = .ok (.i2l, 1) := dk_133 (dk_at dksX1_dares_0 21 rfl rfl)
theorem dX1_dares_22 : decode cX1_dares 22 = .ok (.lconst 0, 1) := dk_9 (dk_at dksX1_dares_0 22 rfl rfl)
theorem dX1_dares_23 : decode cX1_dares 23 = .ok (.ldc2_w 192, 3) := dk_20 0 192 (dk_at dksX1_dares_1 0 rfl rfl)
theorem dX1_dares_26 : decode cX1_dares 26 = .ok (.invokestatic 59, 3) := dk_184 0 59 (dk_at dksX1_dares_1 3 rfl rfl)
theorem dX1_dares_29 : decode cX1_dares 29 = .ok (.ifCond .eq 32, 3) := dk_153 0 32 (dk_at dksX1_dares_1 6 rfl rfl)
theorem dX1_dares_32 : decode cX1_dares 32 = .ok (.iload 4, 2) := dk_21 4 (dk_at dksX1_dares_1 9 rfl rfl)
theorem dX1_dares_34 : decode cX1_dares 34 = .ok (.i2l, 1) := dk_133 (dk_at dksX1_dares_1 11 rfl rfl)
theorem dX1_dares_35 : decode cX1_dares 35 = .ok (.lconst 0, 1) := dk_9 (dk_at dksX1_dares_1 12 rfl rfl)
theorem dX1_dares_36 : decode cX1_dares 36 = .ok (.ldc2_w 182, 3) := dk_20 0 182 (dk_at dksX1_dares_1 13 rfl rfl)
theorem dX1_dares_39 : decode cX1_dares 39 = .ok (.invokestatic 59, 3) := dk_184 0 59 (dk_at dksX1_dares_1 16 rfl rfl)
theorem dX1_dares_42 : decode cX1_dares 42 = .ok (.ifCond .eq 19, 3) := dk_153 0 19 (dk_at dksX1_dares_1 19 rfl rfl)
theorem dX1_dares_45 : decode cX1_dares 45 = .ok (.aload_n 0, 1) := dk_42 (dk_at dksX1_dares_1 22 rfl rfl)
theorem dX1_dares_46 : decode cX1_dares 46 = .ok (.getfield 13, 3) := dk_180 0 13 (dk_at dksX1_dares_2 0 rfl rfl)
theorem dX1_dares_49 : decode cX1_dares 49 = .ok (.iload_n 1, 1) := dk_27 (dk_at dksX1_dares_2 3 rfl rfl)
theorem dX1_dares_50 : decode cX1_dares 50 = .ok (.iaload, 1) := dk_46 (dk_at dksX1_dares_2 4 rfl rfl)
theorem dX1_dares_51 : decode cX1_dares 51 = .ok (.iload_n 2, 1) := dk_28 (dk_at dksX1_dares_2 5 rfl rfl)
theorem dX1_dares_52 : decode cX1_dares 52 = .ok (.iload_n 3, 1) := dk_29 (dk_at dksX1_dares_2 6 rfl rfl)
theorem dX1_dares_53 : decode cX1_dares 53 = .ok (.iload 4, 2) := dk_21 4 (dk_at dksX1_dares_2 7 rfl rfl)
theorem dX1_dares_55 : decode cX1_dares 55 = .ok (.invokestatic 145, 3) := dk_184 0 145 (dk_at dksX1_dares_2 9 rfl rfl)
theorem dX1_dares_58 : decode cX1_dares 58 = .ok (.goto 4, 3) := dk_167 0 4 (dk_at dksX1_dares_2 12 rfl rfl)
theorem dX1_dares_61 : decode cX1_dares 61 = .ok (.iconst (-1), 1) := dk_2 (dk_at dksX1_dares_2 15 rfl rfl)
theorem dX1_dares_62 : decode cX1_dares 62 = .ok (.ireturn, 1) := dk_172 (dk_at dksX1_dares_2 16 rfl rfl)
abbrev cX1_where : ByteArray := prog_10_method_54_code
def yX1_where : MethodName := ⟨RX1, "where", "(I)I"⟩
def dkwX1_where_2 : List UInt8 := [182, 0, 177, 181, 0, 54, 132, 2, 1, 167, 255, 237, 42, 180, 0, 7, 17, 12, 214, 46, 172]
abbrev dktX1_where_2 : List UInt8 := dkwX1_where_2 ++ []
def dkwX1_where_1 : List UInt8 := [42, 182, 0, 196, 42, 16, 247, 181, 0, 54, 3, 61, 28, 27, 162, 0, 20, 42, 42, 17, 12, 212]
abbrev dktX1_where_1 : List UInt8 := dkwX1_where_1 ++ dktX1_where_2
def dkwX1_where_0 : List UInt8 := [27, 133, 9, 20, 0, 194, 184, 0, 59, 154, 0, 5, 2, 172, 42, 180, 0, 136, 154, 0, 6, 16, 252, 172]
abbrev dktX1_where_0 : List UInt8 := dkwX1_where_0 ++ dktX1_where_1
theorem dksX1_where_0 : cX1_where.data.toList.drop 0 = dktX1_where_0 := by decide +kernel
theorem dksX1_where_1 : cX1_where.data.toList.drop 24 = dktX1_where_1 := dk_seg dksX1_where_0 24 rfl rfl
theorem dksX1_where_2 : cX1_where.data.toList.drop 46 = dktX1_where_2 := dk_seg dksX1_where_1 22 rfl rfl
theorem dX1_where_0 : decode cX1_where 0 = .ok (.iload_n 1, 1) := dk_27 (dk_at dksX1_where_0 0 rfl rfl)
theorem dX1_where_1 : decode cX1_where 1 = .ok (.i2l, 1) := dk_133 (dk_at dksX1_where_0 1 rfl rfl)
theorem dX1_where_2 : decode cX1_where 2 = .ok (.lconst 0, 1) := dk_9 (dk_at dksX1_where_0 2 rfl rfl)
theorem dX1_where_3 : decode cX1_where 3 = .ok (.ldc2_w 194, 3) := dk_20 0 194 (dk_at dksX1_where_0 3 rfl rfl)
theorem dX1_where_6 : decode cX1_where 6 = .ok (.invokestatic 59, 3) := dk_184 0 59 (dk_at dksX1_where_0 6 rfl rfl)
theorem dX1_where_9 : decode cX1_where 9 = .ok (.ifCond .ne 5, 3) := dk_154 0 5 (dk_at dksX1_where_0 9 rfl rfl)
theorem dX1_where_12 : decode cX1_where 12 = .ok (.iconst (-1), 1) := dk_2 (dk_at dksX1_where_0 12 rfl rfl)
theorem dX1_where_13 : decode cX1_where 13 = .ok (.ireturn, 1) := dk_172 (dk_at dksX1_where_0 13 rfl rfl)
theorem dX1_where_14 : decode cX1_where 14 = .ok (.aload_n 0, 1) := dk_42 (dk_at dksX1_where_0 14 rfl rfl)
theorem dX1_where_15 : decode cX1_where 15 = .ok (.getfield 136, 3) := dk_180 0 136 (dk_at dksX1_where_0 15 rfl rfl)
theorem dX1_where_18 : decode cX1_where 18 = .ok (.ifCond .ne 6, 3) := dk_154 0 6 (dk_at dksX1_where_0 18 rfl rfl)
theorem dX1_where_21 : decode cX1_where 21 = .ok (.bipush (-4), 2) := dk_16 252 (dk_at dksX1_where_0 21 rfl rfl)
theorem dX1_where_23 : decode cX1_where 23 = .ok (.ireturn, 1) := dk_172 (dk_at dksX1_where_0 23 rfl rfl)
theorem dX1_where_24 : decode cX1_where 24 = .ok (.aload_n 0, 1) := dk_42 (dk_at dksX1_where_1 0 rfl rfl)
theorem dX1_where_25 : decode cX1_where 25 = .ok (.invokevirtual 196, 3) := dk_182 0 196 (dk_at dksX1_where_1 1 rfl rfl)
theorem dX1_where_28 : decode cX1_where 28 = .ok (.aload_n 0, 1) := dk_42 (dk_at dksX1_where_1 4 rfl rfl)
theorem dX1_where_29 : decode cX1_where 29 = .ok (.bipush (-9), 2) := dk_16 247 (dk_at dksX1_where_1 5 rfl rfl)
theorem dX1_where_31 : decode cX1_where 31 = .ok (.putfield 54, 3) := dk_181 0 54 (dk_at dksX1_where_1 7 rfl rfl)
theorem dX1_where_34 : decode cX1_where 34 = .ok (.iconst 0, 1) := dk_3 (dk_at dksX1_where_1 10 rfl rfl)
theorem dX1_where_35 : decode cX1_where 35 = .ok (.istore_n 2, 1) := dk_61 (dk_at dksX1_where_1 11 rfl rfl)
theorem dX1_where_36 : decode cX1_where 36 = .ok (.iload_n 2, 1) := dk_28 (dk_at dksX1_where_1 12 rfl rfl)
theorem dX1_where_37 : decode cX1_where 37 = .ok (.iload_n 1, 1) := dk_27 (dk_at dksX1_where_1 13 rfl rfl)
theorem dX1_where_38 : decode cX1_where 38 = .ok (.if_icmp .ge 20, 3) := dk_162 0 20 (dk_at dksX1_where_1 14 rfl rfl)
theorem dX1_where_41 : decode cX1_where 41 = .ok (.aload_n 0, 1) := dk_42 (dk_at dksX1_where_1 17 rfl rfl)
theorem dX1_where_42 : decode cX1_where 42 = .ok (.aload_n 0, 1) := dk_42 (dk_at dksX1_where_1 18 rfl rfl)
theorem dX1_where_43 : decode cX1_where 43 = .ok (.sipush 3284, 3) := dk_17 12 212 (dk_at dksX1_where_1 19 rfl rfl)
theorem dX1_where_46 : decode cX1_where 46 = .ok (.invokevirtual 177, 3) := dk_182 0 177 (dk_at dksX1_where_2 0 rfl rfl)
theorem dX1_where_49 : decode cX1_where 49 = .ok (.putfield 54, 3) := dk_181 0 54 (dk_at dksX1_where_2 3 rfl rfl)
theorem dX1_where_52 : decode cX1_where 52 = .ok (.iinc 2 1, 3) := dk_132 2 1 (dk_at dksX1_where_2 6 rfl rfl)
theorem dX1_where_55 : decode cX1_where 55 = .ok (.goto (-19), 3) := dk_167 255 237 (dk_at dksX1_where_2 9 rfl rfl)
theorem dX1_where_58 : decode cX1_where 58 = .ok (.aload_n 0, 1) := dk_42 (dk_at dksX1_where_2 12 rfl rfl)
theorem dX1_where_59 : decode cX1_where 59 = .ok (.getfield 7, 3) := dk_180 0 7 (dk_at dksX1_where_2 13 rfl rfl)
theorem dX1_where_62 : decode cX1_where 62 = .ok (.sipush 3286, 3) := dk_17 12 214 (dk_at dksX1_where_2 16 rfl rfl)
theorem dX1_where_65 : decode cX1_where 65 = .ok (.iaload, 1) := dk_46 (dk_at dksX1_where_2 19 rfl rfl)
theorem dX1_where_66 : decode cX1_where 66 = .ok (.ireturn, 1) := dk_172 (dk_at dksX1_where_2 20 rfl rfl)
abbrev cX1_layTried : ByteArray := prog_10_method_52_code
def yX1_layTried : MethodName := ⟨RX1, "layTried", "()V"⟩
def dkwX1_layTried_1 : List UInt8 := [132, 1, 1, 167, 255, 231, 177]
abbrev dktX1_layTried_1 : List UInt8 := dkwX1_layTried_1 ++ []
def dkwX1_layTried_0 : List UInt8 := [3, 60, 27, 16, 21, 162, 0, 25, 42, 180, 0, 7, 17, 12, 212, 27, 96, 42, 180, 0, 7, 27, 46, 79]
abbrev dktX1_layTried_0 : List UInt8 := dkwX1_layTried_0 ++ dktX1_layTried_1
theorem dksX1_layTried_0 : cX1_layTried.data.toList.drop 0 = dktX1_layTried_0 := by decide +kernel
theorem dksX1_layTried_1 : cX1_layTried.data.toList.drop 24 = dktX1_layTried_1 := dk_seg dksX1_layTried_0 24 rfl rfl
theorem dX1_layTried_0 : decode cX1_layTried 0 = .ok (.iconst 0, 1) := dk_3 (dk_at dksX1_layTried_0 0 rfl rfl)
theorem dX1_layTried_1 : decode cX1_layTried 1 = .ok (.istore_n 1, 1) := dk_60 (dk_at dksX1_layTried_0 1 rfl rfl)
theorem dX1_layTried_2 : decode cX1_layTried 2 = .ok (.iload_n 1, 1) := dk_27 (dk_at dksX1_layTried_0 2 rfl rfl)
theorem dX1_layTried_3 : decode cX1_layTried 3 = .ok (.bipush 21, 2) := dk_16 21 (dk_at dksX1_layTried_0 3 rfl rfl)
theorem dX1_layTried_5 : decode cX1_layTried 5 = .ok (.if_icmp .ge 25, 3) := dk_162 0 25 (dk_at dksX1_layTried_0 5 rfl rfl)
theorem dX1_layTried_8 : decode cX1_layTried 8 = .ok (.aload_n 0, 1) := dk_42 (dk_at dksX1_layTried_0 8 rfl rfl)
theorem dX1_layTried_9 : decode cX1_layTried 9 = .ok (.getfield 7, 3) := dk_180 0 7 (dk_at dksX1_layTried_0 9 rfl rfl)
theorem dX1_layTried_12 : decode cX1_layTried 12 = .ok (.sipush 3284, 3) := dk_17 12 212 (dk_at dksX1_layTried_0 12 rfl rfl)
theorem dX1_layTried_15 : decode cX1_layTried 15 = .ok (.iload_n 1, 1) := dk_27 (dk_at dksX1_layTried_0 15 rfl rfl)
theorem dX1_layTried_16 : decode cX1_layTried 16 = .ok (.iadd, 1) := dk_96 (dk_at dksX1_layTried_0 16 rfl rfl)
theorem dX1_layTried_17 : decode cX1_layTried 17 = .ok (.aload_n 0, 1) := dk_42 (dk_at dksX1_layTried_0 17 rfl rfl)
theorem dX1_layTried_18 : decode cX1_layTried 18 = .ok (.getfield 7, 3) := dk_180 0 7 (dk_at dksX1_layTried_0 18 rfl rfl)
theorem dX1_layTried_21 : decode cX1_layTried 21 = .ok (.iload_n 1, 1) := dk_27 (dk_at dksX1_layTried_0 21 rfl rfl)
theorem dX1_layTried_22 : decode cX1_layTried 22 = .ok (.iaload, 1) := dk_46 (dk_at dksX1_layTried_0 22 rfl rfl)
theorem dX1_layTried_23 : decode cX1_layTried 23 = .ok (.iastore, 1) := dk_79 (dk_at dksX1_layTried_0 23 rfl rfl)
theorem dX1_layTried_24 : decode cX1_layTried 24 = .ok (.iinc 1 1, 3) := dk_132 1 1 (dk_at dksX1_layTried_1 0 rfl rfl)
theorem dX1_layTried_27 : decode cX1_layTried 27 = .ok (.goto (-25), 3) := dk_167 255 231 (dk_at dksX1_layTried_1 3 rfl rfl)
theorem dX1_layTried_30 : decode cX1_layTried 30 = .ok (.return_, 1) := dk_177 (dk_at dksX1_layTried_1 6 rfl rfl)
abbrev cX1_crosses : ByteArray := prog_10_method_55_code
def yX1_crosses : MethodName := ⟨RX1, "crosses", "(II)I"⟩
def dkwX1_crosses_2 : List UInt8 := [42, 180, 0, 7, 17, 12, 227, 27, 96, 46, 42, 180, 0, 7, 16, 15, 27, 96, 46, 100, 172]
abbrev dktX1_crosses_2 : List UInt8 := dkwX1_crosses_2 ++ []
def dkwX1_crosses_1 : List UInt8 := [182, 0, 196, 3, 62, 29, 28, 162, 0, 17, 42, 17, 12, 212, 182, 0, 177, 87, 132, 3, 1, 167, 255, 240]
abbrev dktX1_crosses_1 : List UInt8 := dkwX1_crosses_1 ++ dktX1_crosses_2
def dkwX1_crosses_0 : List UInt8 := [42, 27, 182, 0, 162, 153, 0, 15, 28, 133, 9, 20, 0, 194, 184, 0, 59, 154, 0, 5, 2, 172, 42]
abbrev dktX1_crosses_0 : List UInt8 := dkwX1_crosses_0 ++ dktX1_crosses_1
theorem dksX1_crosses_0 : cX1_crosses.data.toList.drop 0 = dktX1_crosses_0 := by decide +kernel
theorem dksX1_crosses_1 : cX1_crosses.data.toList.drop 23 = dktX1_crosses_1 := dk_seg dksX1_crosses_0 23 rfl rfl
theorem dksX1_crosses_2 : cX1_crosses.data.toList.drop 47 = dktX1_crosses_2 := dk_seg dksX1_crosses_1 24 rfl rfl
theorem dX1_crosses_0 : decode cX1_crosses 0 = .ok (.aload_n 0, 1) := dk_42 (dk_at dksX1_crosses_0 0 rfl rfl)
theorem dX1_crosses_1 : decode cX1_crosses 1 = .ok (.iload_n 1, 1) := dk_27 (dk_at dksX1_crosses_0 1 rfl rfl)
theorem dX1_crosses_2 : decode cX1_crosses 2 = .ok (.invokevirtual 162, 3) := dk_182 0 162 (dk_at dksX1_crosses_0 2 rfl rfl)
theorem dX1_crosses_5 : decode cX1_crosses 5 = .ok (.ifCond .eq 15, 3) := dk_153 0 15 (dk_at dksX1_crosses_0 5 rfl rfl)
theorem dX1_crosses_8 : decode cX1_crosses 8 = .ok (.iload_n 2, 1) := dk_28 (dk_at dksX1_crosses_0 8 rfl rfl)
theorem dX1_crosses_9 : decode cX1_crosses 9 = .ok (.i2l, 1) := dk_133 (dk_at dksX1_crosses_0 9 rfl rfl)
theorem dX1_crosses_10 : decode cX1_crosses 10 = .ok (.lconst 0, 1) := dk_9 (dk_at dksX1_crosses_0 10 rfl rfl)
theorem dX1_crosses_11 : decode cX1_crosses 11 = .ok (.ldc2_w 194, 3) := dk_20 0 194 (dk_at dksX1_crosses_0 11 rfl rfl)
theorem dX1_crosses_14 : decode cX1_crosses 14 = .ok (.invokestatic 59, 3) := dk_184 0 59 (dk_at dksX1_crosses_0 14 rfl rfl)
theorem dX1_crosses_17 : decode cX1_crosses 17 = .ok (.ifCond .ne 5, 3) := dk_154 0 5 (dk_at dksX1_crosses_0 17 rfl rfl)
theorem dX1_crosses_20 : decode cX1_crosses 20 = .ok (.iconst (-1), 1) := dk_2 (dk_at dksX1_crosses_0 20 rfl rfl)
theorem dX1_crosses_21 : decode cX1_crosses 21 = .ok (.ireturn, 1) := dk_172 (dk_at dksX1_crosses_0 21 rfl rfl)
theorem dX1_crosses_22 : decode cX1_crosses 22 = .ok (.aload_n 0, 1) := dk_42 (dk_at dksX1_crosses_0 22 rfl rfl)
theorem dX1_crosses_23 : decode cX1_crosses 23 = .ok (.invokevirtual 196, 3) := dk_182 0 196 (dk_at dksX1_crosses_1 0 rfl rfl)
theorem dX1_crosses_26 : decode cX1_crosses 26 = .ok (.iconst 0, 1) := dk_3 (dk_at dksX1_crosses_1 3 rfl rfl)
theorem dX1_crosses_27 : decode cX1_crosses 27 = .ok (.istore_n 3, 1) := dk_62 (dk_at dksX1_crosses_1 4 rfl rfl)
theorem dX1_crosses_28 : decode cX1_crosses 28 = .ok (.iload_n 3, 1) := dk_29 (dk_at dksX1_crosses_1 5 rfl rfl)
theorem dX1_crosses_29 : decode cX1_crosses 29 = .ok (.iload_n 2, 1) := dk_28 (dk_at dksX1_crosses_1 6 rfl rfl)
theorem dX1_crosses_30 : decode cX1_crosses 30 = .ok (.if_icmp .ge 17, 3) := dk_162 0 17 (dk_at dksX1_crosses_1 7 rfl rfl)
theorem dX1_crosses_33 : decode cX1_crosses 33 = .ok (.aload_n 0, 1) := dk_42 (dk_at dksX1_crosses_1 10 rfl rfl)
theorem dX1_crosses_34 : decode cX1_crosses 34 = .ok (.sipush 3284, 3) := dk_17 12 212 (dk_at dksX1_crosses_1 11 rfl rfl)
theorem dX1_crosses_37 : decode cX1_crosses 37 = .ok (.invokevirtual 177, 3) := dk_182 0 177 (dk_at dksX1_crosses_1 14 rfl rfl)
theorem dX1_crosses_40 : decode cX1_crosses 40 = .ok (.pop, 1) := dk_87 (dk_at dksX1_crosses_1 17 rfl rfl)
theorem dX1_crosses_41 : decode cX1_crosses 41 = .ok (.iinc 3 1, 3) := dk_132 3 1 (dk_at dksX1_crosses_1 18 rfl rfl)
theorem dX1_crosses_44 : decode cX1_crosses 44 = .ok (.goto (-16), 3) := dk_167 255 240 (dk_at dksX1_crosses_1 21 rfl rfl)
theorem dX1_crosses_47 : decode cX1_crosses 47 = .ok (.aload_n 0, 1) := dk_42 (dk_at dksX1_crosses_2 0 rfl rfl)
theorem dX1_crosses_48 : decode cX1_crosses 48 = .ok (.getfield 7, 3) := dk_180 0 7 (dk_at dksX1_crosses_2 1 rfl rfl)
theorem dX1_crosses_51 : decode cX1_crosses 51 = .ok (.sipush 3299, 3) := dk_17 12 227 (dk_at dksX1_crosses_2 4 rfl rfl)
theorem dX1_crosses_54 : decode cX1_crosses 54 = .ok (.iload_n 1, 1) := dk_27 (dk_at dksX1_crosses_2 7 rfl rfl)
theorem dX1_crosses_55 : decode cX1_crosses 55 = .ok (.iadd, 1) := dk_96 (dk_at dksX1_crosses_2 8 rfl rfl)
theorem dX1_crosses_56 : decode cX1_crosses 56 = .ok (.iaload, 1) := dk_46 (dk_at dksX1_crosses_2 9 rfl rfl)
theorem dX1_crosses_57 : decode cX1_crosses 57 = .ok (.aload_n 0, 1) := dk_42 (dk_at dksX1_crosses_2 10 rfl rfl)
theorem dX1_crosses_58 : decode cX1_crosses 58 = .ok (.getfield 7, 3) := dk_180 0 7 (dk_at dksX1_crosses_2 11 rfl rfl)
theorem dX1_crosses_61 : decode cX1_crosses 61 = .ok (.bipush 15, 2) := dk_16 15 (dk_at dksX1_crosses_2 14 rfl rfl)
theorem dX1_crosses_63 : decode cX1_crosses 63 = .ok (.iload_n 1, 1) := dk_27 (dk_at dksX1_crosses_2 16 rfl rfl)
theorem dX1_crosses_64 : decode cX1_crosses 64 = .ok (.iadd, 1) := dk_96 (dk_at dksX1_crosses_2 17 rfl rfl)
theorem dX1_crosses_65 : decode cX1_crosses 65 = .ok (.iaload, 1) := dk_46 (dk_at dksX1_crosses_2 18 rfl rfl)
theorem dX1_crosses_66 : decode cX1_crosses 66 = .ok (.isub, 1) := dk_100 (dk_at dksX1_crosses_2 19 rfl rfl)
theorem dX1_crosses_67 : decode cX1_crosses 67 = .ok (.ireturn, 1) := dk_172 (dk_at dksX1_crosses_2 20 rfl rfl)
abbrev cX1_first : ByteArray := prog_10_method_56_code
def yX1_first : MethodName := ⟨RX1, "first", "(I)I"⟩
def dkwX1_first_1 : List UInt8 := [17, 12, 212, 182, 0, 177, 27, 160, 0, 5, 28, 172, 132, 2, 1, 167, 255, 234, 16, 247, 172]
abbrev dktX1_first_1 : List UInt8 := dkwX1_first_1 ++ []
def dkwX1_first_0 : List UInt8 := [42, 27, 182, 0, 162, 154, 0, 5, 2, 172, 42, 182, 0, 196, 4, 61, 28, 16, 41, 162, 0, 22, 42]
abbrev dktX1_first_0 : List UInt8 := dkwX1_first_0 ++ dktX1_first_1
theorem dksX1_first_0 : cX1_first.data.toList.drop 0 = dktX1_first_0 := by decide +kernel
theorem dksX1_first_1 : cX1_first.data.toList.drop 23 = dktX1_first_1 := dk_seg dksX1_first_0 23 rfl rfl
theorem dX1_first_0 : decode cX1_first 0 = .ok (.aload_n 0, 1) := dk_42 (dk_at dksX1_first_0 0 rfl rfl)
theorem dX1_first_1 : decode cX1_first 1 = .ok (.iload_n 1, 1) := dk_27 (dk_at dksX1_first_0 1 rfl rfl)
theorem dX1_first_2 : decode cX1_first 2 = .ok (.invokevirtual 162, 3) := dk_182 0 162 (dk_at dksX1_first_0 2 rfl rfl)
theorem dX1_first_5 : decode cX1_first 5 = .ok (.ifCond .ne 5, 3) := dk_154 0 5 (dk_at dksX1_first_0 5 rfl rfl)
theorem dX1_first_8 : decode cX1_first 8 = .ok (.iconst (-1), 1) := dk_2 (dk_at dksX1_first_0 8 rfl rfl)
theorem dX1_first_9 : decode cX1_first 9 = .ok (.ireturn, 1) := dk_172 (dk_at dksX1_first_0 9 rfl rfl)
theorem dX1_first_10 : decode cX1_first 10 = .ok (.aload_n 0, 1) := dk_42 (dk_at dksX1_first_0 10 rfl rfl)
theorem dX1_first_11 : decode cX1_first 11 = .ok (.invokevirtual 196, 3) := dk_182 0 196 (dk_at dksX1_first_0 11 rfl rfl)
theorem dX1_first_14 : decode cX1_first 14 = .ok (.iconst 1, 1) := dk_4 (dk_at dksX1_first_0 14 rfl rfl)
theorem dX1_first_15 : decode cX1_first 15 = .ok (.istore_n 2, 1) := dk_61 (dk_at dksX1_first_0 15 rfl rfl)
theorem dX1_first_16 : decode cX1_first 16 = .ok (.iload_n 2, 1) := dk_28 (dk_at dksX1_first_0 16 rfl rfl)
theorem dX1_first_17 : decode cX1_first 17 = .ok (.bipush 41, 2) := dk_16 41 (dk_at dksX1_first_0 17 rfl rfl)
theorem dX1_first_19 : decode cX1_first 19 = .ok (.if_icmp .ge 22, 3) := dk_162 0 22 (dk_at dksX1_first_0 19 rfl rfl)
theorem dX1_first_22 : decode cX1_first 22 = .ok (.aload_n 0, 1) := dk_42 (dk_at dksX1_first_0 22 rfl rfl)
theorem dX1_first_23 : decode cX1_first 23 = .ok (.sipush 3284, 3) := dk_17 12 212 (dk_at dksX1_first_1 0 rfl rfl)
theorem dX1_first_26 : decode cX1_first 26 = .ok (.invokevirtual 177, 3) := dk_182 0 177 (dk_at dksX1_first_1 3 rfl rfl)
theorem dX1_first_29 : decode cX1_first 29 = .ok (.iload_n 1, 1) := dk_27 (dk_at dksX1_first_1 6 rfl rfl)
theorem dX1_first_30 : decode cX1_first 30 = .ok (.if_icmp .ne 5, 3) := dk_160 0 5 (dk_at dksX1_first_1 7 rfl rfl)
theorem dX1_first_33 : decode cX1_first 33 = .ok (.iload_n 2, 1) := dk_28 (dk_at dksX1_first_1 10 rfl rfl)
theorem dX1_first_34 : decode cX1_first 34 = .ok (.ireturn, 1) := dk_172 (dk_at dksX1_first_1 11 rfl rfl)
theorem dX1_first_35 : decode cX1_first 35 = .ok (.iinc 2 1, 3) := dk_132 2 1 (dk_at dksX1_first_1 12 rfl rfl)
theorem dX1_first_38 : decode cX1_first 38 = .ok (.goto (-22), 3) := dk_167 255 234 (dk_at dksX1_first_1 15 rfl rfl)
theorem dX1_first_41 : decode cX1_first 41 = .ok (.bipush (-9), 2) := dk_16 247 (dk_at dksX1_first_1 18 rfl rfl)
theorem dX1_first_43 : decode cX1_first 43 = .ok (.ireturn, 1) := dk_172 (dk_at dksX1_first_1 20 rfl rfl)
abbrev cX1_lift : ByteArray := prog_10_method_58_code
def yX1_lift : MethodName := ⟨RX1, "lift", "(II)I"⟩
def dkwX1_lift_2 : List UInt8 := [27, 96, 46, 29, 96, 28, 182, 0, 199, 27, 160, 0, 5, 29, 172, 132, 3, 1, 167, 255, 214, 16, 247, 172]
abbrev dktX1_lift_2 : List UInt8 := dkwX1_lift_2 ++ []
def dkwX1_lift_1 : List UInt8 := [42, 180, 0, 7, 16, 9, 27, 96, 46, 29, 96, 16, 21, 162, 0, 32, 42, 27, 42, 180, 0, 7, 16, 9]
abbrev dktX1_lift_1 : List UInt8 := dkwX1_lift_1 ++ dktX1_lift_2
def dkwX1_lift_0 : List UInt8 := [42, 27, 182, 0, 162, 153, 0, 15, 28, 133, 10, 20, 0, 180, 184, 0, 59, 154, 0, 5, 2, 172, 3, 62]
abbrev dktX1_lift_0 : List UInt8 := dkwX1_lift_0 ++ dktX1_lift_1
theorem dksX1_lift_0 : cX1_lift.data.toList.drop 0 = dktX1_lift_0 := by decide +kernel
theorem dksX1_lift_1 : cX1_lift.data.toList.drop 24 = dktX1_lift_1 := dk_seg dksX1_lift_0 24 rfl rfl
theorem dksX1_lift_2 : cX1_lift.data.toList.drop 48 = dktX1_lift_2 := dk_seg dksX1_lift_1 24 rfl rfl
theorem dX1_lift_0 : decode cX1_lift 0 = .ok (.aload_n 0, 1) := dk_42 (dk_at dksX1_lift_0 0 rfl rfl)
theorem dX1_lift_1 : decode cX1_lift 1 = .ok (.iload_n 1, 1) := dk_27 (dk_at dksX1_lift_0 1 rfl rfl)
theorem dX1_lift_2 : decode cX1_lift 2 = .ok (.invokevirtual 162, 3) := dk_182 0 162 (dk_at dksX1_lift_0 2 rfl rfl)
theorem dX1_lift_5 : decode cX1_lift 5 = .ok (.ifCond .eq 15, 3) := dk_153 0 15 (dk_at dksX1_lift_0 5 rfl rfl)
theorem dX1_lift_8 : decode cX1_lift 8 = .ok (.iload_n 2, 1) := dk_28 (dk_at dksX1_lift_0 8 rfl rfl)
theorem dX1_lift_9 : decode cX1_lift 9 = .ok (.i2l, 1) := dk_133 (dk_at dksX1_lift_0 9 rfl rfl)
theorem dX1_lift_10 : decode cX1_lift 10 = .ok (.lconst 1, 1) := dk_10 (dk_at dksX1_lift_0 10 rfl rfl)
theorem dX1_lift_11 : decode cX1_lift 11 = .ok (.ldc2_w 180, 3) := dk_20 0 180 (dk_at dksX1_lift_0 11 rfl rfl)
theorem dX1_lift_14 : decode cX1_lift 14 = .ok (.invokestatic 59, 3) := dk_184 0 59 (dk_at dksX1_lift_0 14 rfl rfl)
theorem dX1_lift_17 : decode cX1_lift 17 = .ok (.ifCond .ne 5, 3) := dk_154 0 5 (dk_at dksX1_lift_0 17 rfl rfl)
theorem dX1_lift_20 : decode cX1_lift 20 = .ok (.iconst (-1), 1) := dk_2 (dk_at dksX1_lift_0 20 rfl rfl)
theorem dX1_lift_21 : decode cX1_lift 21 = .ok (.ireturn, 1) := dk_172 (dk_at dksX1_lift_0 21 rfl rfl)
theorem dX1_lift_22 : decode cX1_lift 22 = .ok (.iconst 0, 1) := dk_3 (dk_at dksX1_lift_0 22 rfl rfl)
theorem dX1_lift_23 : decode cX1_lift 23 = .ok (.istore_n 3, 1) := dk_62 (dk_at dksX1_lift_0 23 rfl rfl)
theorem dX1_lift_24 : decode cX1_lift 24 = .ok (.aload_n 0, 1) := dk_42 (dk_at dksX1_lift_1 0 rfl rfl)
theorem dX1_lift_25 : decode cX1_lift 25 = .ok (.getfield 7, 3) := dk_180 0 7 (dk_at dksX1_lift_1 1 rfl rfl)
theorem dX1_lift_28 : decode cX1_lift 28 = .ok (.bipush 9, 2) := dk_16 9 (dk_at dksX1_lift_1 4 rfl rfl)
theorem dX1_lift_30 : decode cX1_lift 30 = .ok (.iload_n 1, 1) := dk_27 (dk_at dksX1_lift_1 6 rfl rfl)
theorem dX1_lift_31 : decode cX1_lift 31 = .ok (.iadd, 1) := dk_96 (dk_at dksX1_lift_1 7 rfl rfl)
theorem dX1_lift_32 : decode cX1_lift 32 = .ok (.iaload, 1) := dk_46 (dk_at dksX1_lift_1 8 rfl rfl)
theorem dX1_lift_33 : decode cX1_lift 33 = .ok (.iload_n 3, 1) := dk_29 (dk_at dksX1_lift_1 9 rfl rfl)
theorem dX1_lift_34 : decode cX1_lift 34 = .ok (.iadd, 1) := dk_96 (dk_at dksX1_lift_1 10 rfl rfl)
theorem dX1_lift_35 : decode cX1_lift 35 = .ok (.bipush 21, 2) := dk_16 21 (dk_at dksX1_lift_1 11 rfl rfl)
theorem dX1_lift_37 : decode cX1_lift 37 = .ok (.if_icmp .ge 32, 3) := dk_162 0 32 (dk_at dksX1_lift_1 13 rfl rfl)
theorem dX1_lift_40 : decode cX1_lift 40 = .ok (.aload_n 0, 1) := dk_42 (dk_at dksX1_lift_1 16 rfl rfl)
theorem dX1_lift_41 : decode cX1_lift 41 = .ok (.iload_n 1, 1) := dk_27 (dk_at dksX1_lift_1 17 rfl rfl)
theorem dX1_lift_42 : decode cX1_lift 42 = .ok (.aload_n 0, 1) := dk_42 (dk_at dksX1_lift_1 18 rfl rfl)
theorem dX1_lift_43 : decode cX1_lift 43 = .ok (.getfield 7, 3) := dk_180 0 7 (dk_at dksX1_lift_1 19 rfl rfl)
theorem dX1_lift_46 : decode cX1_lift 46 = .ok (.bipush 9, 2) := dk_16 9 (dk_at dksX1_lift_1 22 rfl rfl)
theorem dX1_lift_48 : decode cX1_lift 48 = .ok (.iload_n 1, 1) := dk_27 (dk_at dksX1_lift_2 0 rfl rfl)
theorem dX1_lift_49 : decode cX1_lift 49 = .ok (.iadd, 1) := dk_96 (dk_at dksX1_lift_2 1 rfl rfl)
theorem dX1_lift_50 : decode cX1_lift 50 = .ok (.iaload, 1) := dk_46 (dk_at dksX1_lift_2 2 rfl rfl)
theorem dX1_lift_51 : decode cX1_lift 51 = .ok (.iload_n 3, 1) := dk_29 (dk_at dksX1_lift_2 3 rfl rfl)
theorem dX1_lift_52 : decode cX1_lift 52 = .ok (.iadd, 1) := dk_96 (dk_at dksX1_lift_2 4 rfl rfl)
theorem dX1_lift_53 : decode cX1_lift 53 = .ok (.iload_n 2, 1) := dk_28 (dk_at dksX1_lift_2 5 rfl rfl)
theorem dX1_lift_54 : decode cX1_lift 54 = .ok (.invokevirtual 199, 3) := dk_182 0 199 (dk_at dksX1_lift_2 6 rfl rfl)
theorem dX1_lift_57 : decode cX1_lift 57 = .ok (.iload_n 1, 1) := dk_27 (dk_at dksX1_lift_2 9 rfl rfl)
theorem dX1_lift_58 : decode cX1_lift 58 = .ok (.if_icmp .ne 5, 3) := dk_160 0 5 (dk_at dksX1_lift_2 10 rfl rfl)
theorem dX1_lift_61 : decode cX1_lift 61 = .ok (.iload_n 3, 1) := dk_29 (dk_at dksX1_lift_2 13 rfl rfl)
theorem dX1_lift_62 : decode cX1_lift 62 = .ok (.ireturn, 1) := dk_172 (dk_at dksX1_lift_2 14 rfl rfl)
theorem dX1_lift_63 : decode cX1_lift 63 = .ok (.iinc 3 1, 3) := dk_132 3 1 (dk_at dksX1_lift_2 15 rfl rfl)
theorem dX1_lift_66 : decode cX1_lift 66 = .ok (.goto (-42), 3) := dk_167 255 214 (dk_at dksX1_lift_2 18 rfl rfl)
theorem dX1_lift_69 : decode cX1_lift 69 = .ok (.bipush (-9), 2) := dk_16 247 (dk_at dksX1_lift_2 21 rfl rfl)
theorem dX1_lift_71 : decode cX1_lift 71 = .ok (.ireturn, 1) := dk_172 (dk_at dksX1_lift_2 23 rfl rfl)
abbrev cX1_hasBy : ByteArray := prog_10_method_57_code
def yX1_hasBy : MethodName := ⟨RX1, "hasBy", "(III)I"⟩
def dkwX1_hasBy_1 : List UInt8 := [29, 162, 0, 18, 42, 17, 12, 212, 182, 0, 177, 54, 4, 132, 5, 1, 167, 255, 238, 21, 4, 172]
abbrev dktX1_hasBy_1 : List UInt8 := dkwX1_hasBy_1 ++ []
def dkwX1_hasBy_0 : List UInt8 := [42, 182, 0, 196, 42, 180, 0, 7, 17, 12, 221, 27, 96, 28, 79, 16, 247, 54, 4, 3, 54, 5, 21, 5]
abbrev dktX1_hasBy_0 : List UInt8 := dkwX1_hasBy_0 ++ dktX1_hasBy_1
theorem dksX1_hasBy_0 : cX1_hasBy.data.toList.drop 0 = dktX1_hasBy_0 := by decide +kernel
theorem dksX1_hasBy_1 : cX1_hasBy.data.toList.drop 24 = dktX1_hasBy_1 := dk_seg dksX1_hasBy_0 24 rfl rfl
theorem dX1_hasBy_0 : decode cX1_hasBy 0 = .ok (.aload_n 0, 1) := dk_42 (dk_at dksX1_hasBy_0 0 rfl rfl)
theorem dX1_hasBy_1 : decode cX1_hasBy 1 = .ok (.invokevirtual 196, 3) := dk_182 0 196 (dk_at dksX1_hasBy_0 1 rfl rfl)
theorem dX1_hasBy_4 : decode cX1_hasBy 4 = .ok (.aload_n 0, 1) := dk_42 (dk_at dksX1_hasBy_0 4 rfl rfl)
theorem dX1_hasBy_5 : decode cX1_hasBy 5 = .ok (.getfield 7, 3) := dk_180 0 7 (dk_at dksX1_hasBy_0 5 rfl rfl)
theorem dX1_hasBy_8 : decode cX1_hasBy 8 = .ok (.sipush 3293, 3) := dk_17 12 221 (dk_at dksX1_hasBy_0 8 rfl rfl)
theorem dX1_hasBy_11 : decode cX1_hasBy 11 = .ok (.iload_n 1, 1) := dk_27 (dk_at dksX1_hasBy_0 11 rfl rfl)
theorem dX1_hasBy_12 : decode cX1_hasBy 12 = .ok (.iadd, 1) := dk_96 (dk_at dksX1_hasBy_0 12 rfl rfl)
theorem dX1_hasBy_13 : decode cX1_hasBy 13 = .ok (.iload_n 2, 1) := dk_28 (dk_at dksX1_hasBy_0 13 rfl rfl)
theorem dX1_hasBy_14 : decode cX1_hasBy 14 = .ok (.iastore, 1) := dk_79 (dk_at dksX1_hasBy_0 14 rfl rfl)
theorem dX1_hasBy_15 : decode cX1_hasBy 15 = .ok (.bipush (-9), 2) := dk_16 247 (dk_at dksX1_hasBy_0 15 rfl rfl)
theorem dX1_hasBy_17 : decode cX1_hasBy 17 = .ok (.istore 4, 2) := dk_54 4 (dk_at dksX1_hasBy_0 17 rfl rfl)
theorem dX1_hasBy_19 : decode cX1_hasBy 19 = .ok (.iconst 0, 1) := dk_3 (dk_at dksX1_hasBy_0 19 rfl rfl)
theorem dX1_hasBy_20 : decode cX1_hasBy 20 = .ok (.istore 5, 2) := dk_54 5 (dk_at dksX1_hasBy_0 20 rfl rfl)
theorem dX1_hasBy_22 : decode cX1_hasBy 22 = .ok (.iload 5, 2) := dk_21 5 (dk_at dksX1_hasBy_0 22 rfl rfl)
theorem dX1_hasBy_24 : decode cX1_hasBy 24 = .ok (.iload_n 3, 1) := dk_29 (dk_at dksX1_hasBy_1 0 rfl rfl)
theorem dX1_hasBy_25 : decode cX1_hasBy 25 = .ok (.if_icmp .ge 18, 3) := dk_162 0 18 (dk_at dksX1_hasBy_1 1 rfl rfl)
theorem dX1_hasBy_28 : decode cX1_hasBy 28 = .ok (.aload_n 0, 1) := dk_42 (dk_at dksX1_hasBy_1 4 rfl rfl)
theorem dX1_hasBy_29 : decode cX1_hasBy 29 = .ok (.sipush 3284, 3) := dk_17 12 212 (dk_at dksX1_hasBy_1 5 rfl rfl)
theorem dX1_hasBy_32 : decode cX1_hasBy 32 = .ok (.invokevirtual 177, 3) := dk_182 0 177 (dk_at dksX1_hasBy_1 8 rfl rfl)
theorem dX1_hasBy_35 : decode cX1_hasBy 35 = .ok (.istore 4, 2) := dk_54 4 (dk_at dksX1_hasBy_1 11 rfl rfl)
theorem dX1_hasBy_37 : decode cX1_hasBy 37 = .ok (.iinc 5 1, 3) := dk_132 5 1 (dk_at dksX1_hasBy_1 13 rfl rfl)
theorem dX1_hasBy_40 : decode cX1_hasBy 40 = .ok (.goto (-18), 3) := dk_167 255 238 (dk_at dksX1_hasBy_1 16 rfl rfl)
theorem dX1_hasBy_43 : decode cX1_hasBy 43 = .ok (.iload 4, 2) := dk_21 4 (dk_at dksX1_hasBy_1 19 rfl rfl)
theorem dX1_hasBy_45 : decode cX1_hasBy 45 = .ok (.ireturn, 1) := dk_172 (dk_at dksX1_hasBy_1 21 rfl rfl)
abbrev cX1_cheap : ByteArray := prog_10_method_62_code
def yX1_cheap : MethodName := ⟨RX1, "cheap", "(II)I"⟩
def dkwX1_cheap_6 : List UInt8 := [21, 4, 46, 79, 132, 4, 1, 167, 255, 225, 29, 172]
abbrev dktX1_cheap_6 : List UInt8 := dkwX1_cheap_6 ++ []
def dkwX1_cheap_5 : List UInt8 := [21, 4, 42, 180, 0, 136, 162, 0, 28, 42, 180, 0, 19, 16, 40, 28, 104, 21, 4, 96, 42, 180, 0, 41]
abbrev dktX1_cheap_5 : List UInt8 := dkwX1_cheap_5 ++ dktX1_cheap_6
def dkwX1_cheap_4 : List UInt8 := [167, 255, 186, 29, 18, 210, 160, 0, 6, 16, 247, 172, 42, 28, 42, 180, 0, 136, 182, 0, 73, 3, 54, 4]
abbrev dktX1_cheap_4 : List UInt8 := dkwX1_cheap_4 ++ dktX1_cheap_5
def dkwX1_cheap_3 : List UInt8 := [180, 0, 41, 21, 6, 42, 180, 0, 38, 21, 6, 46, 79, 132, 6, 1, 167, 255, 230, 132, 4, 1]
abbrev dktX1_cheap_3 : List UInt8 := dkwX1_cheap_3 ++ dktX1_cheap_4
def dkwX1_cheap_2 : List UInt8 := [54, 5, 21, 5, 29, 162, 0, 38, 21, 5, 62, 3, 54, 6, 21, 6, 42, 180, 0, 136, 162, 0, 23, 42]
abbrev dktX1_cheap_2 : List UInt8 := dkwX1_cheap_2 ++ dktX1_cheap_3
def dkwX1_cheap_1 : List UInt8 := [180, 0, 7, 16, 9, 27, 96, 46, 21, 4, 96, 16, 21, 162, 0, 59, 42, 27, 21, 4, 182, 0, 211]
abbrev dktX1_cheap_1 : List UInt8 := dkwX1_cheap_1 ++ dktX1_cheap_2
def dkwX1_cheap_0 : List UInt8 := [42, 27, 182, 0, 162, 153, 0, 10, 28, 184, 0, 65, 154, 0, 5, 2, 172, 18, 210, 62, 3, 54, 4, 42]
abbrev dktX1_cheap_0 : List UInt8 := dkwX1_cheap_0 ++ dktX1_cheap_1
theorem dksX1_cheap_0 : cX1_cheap.data.toList.drop 0 = dktX1_cheap_0 := by decide +kernel
theorem dksX1_cheap_1 : cX1_cheap.data.toList.drop 24 = dktX1_cheap_1 := dk_seg dksX1_cheap_0 24 rfl rfl
theorem dksX1_cheap_2 : cX1_cheap.data.toList.drop 47 = dktX1_cheap_2 := dk_seg dksX1_cheap_1 23 rfl rfl
theorem dksX1_cheap_3 : cX1_cheap.data.toList.drop 71 = dktX1_cheap_3 := dk_seg dksX1_cheap_2 24 rfl rfl
theorem dksX1_cheap_4 : cX1_cheap.data.toList.drop 93 = dktX1_cheap_4 := dk_seg dksX1_cheap_3 22 rfl rfl
theorem dksX1_cheap_5 : cX1_cheap.data.toList.drop 117 = dktX1_cheap_5 := dk_seg dksX1_cheap_4 24 rfl rfl
theorem dksX1_cheap_6 : cX1_cheap.data.toList.drop 141 = dktX1_cheap_6 := dk_seg dksX1_cheap_5 24 rfl rfl
theorem dX1_cheap_0 : decode cX1_cheap 0 = .ok (.aload_n 0, 1) := dk_42 (dk_at dksX1_cheap_0 0 rfl rfl)
theorem dX1_cheap_1 : decode cX1_cheap 1 = .ok (.iload_n 1, 1) := dk_27 (dk_at dksX1_cheap_0 1 rfl rfl)
theorem dX1_cheap_2 : decode cX1_cheap 2 = .ok (.invokevirtual 162, 3) := dk_182 0 162 (dk_at dksX1_cheap_0 2 rfl rfl)
theorem dX1_cheap_5 : decode cX1_cheap 5 = .ok (.ifCond .eq 10, 3) := dk_153 0 10 (dk_at dksX1_cheap_0 5 rfl rfl)
theorem dX1_cheap_8 : decode cX1_cheap 8 = .ok (.iload_n 2, 1) := dk_28 (dk_at dksX1_cheap_0 8 rfl rfl)
theorem dX1_cheap_9 : decode cX1_cheap 9 = .ok (.invokestatic 65, 3) := dk_184 0 65 (dk_at dksX1_cheap_0 9 rfl rfl)
theorem dX1_cheap_12 : decode cX1_cheap 12 = .ok (.ifCond .ne 5, 3) := dk_154 0 5 (dk_at dksX1_cheap_0 12 rfl rfl)
theorem dX1_cheap_15 : decode cX1_cheap 15 = .ok (.iconst (-1), 1) := dk_2 (dk_at dksX1_cheap_0 15 rfl rfl)
theorem dX1_cheap_16 : decode cX1_cheap 16 = .ok (.ireturn, 1) := dk_172 (dk_at dksX1_cheap_0 16 rfl rfl)
theorem dX1_cheap_17 : decode cX1_cheap 17 = .ok (.ldc 210, 2) := dk_18 210 (dk_at dksX1_cheap_0 17 rfl rfl)
theorem dX1_cheap_19 : decode cX1_cheap 19 = .ok (.istore_n 3, 1) := dk_62 (dk_at dksX1_cheap_0 19 rfl rfl)
theorem dX1_cheap_20 : decode cX1_cheap 20 = .ok (.iconst 0, 1) := dk_3 (dk_at dksX1_cheap_0 20 rfl rfl)
theorem dX1_cheap_21 : decode cX1_cheap 21 = .ok (.istore 4, 2) := dk_54 4 (dk_at dksX1_cheap_0 21 rfl rfl)
theorem dX1_cheap_23 : decode cX1_cheap 23 = .ok (.aload_n 0, 1) := dk_42 (dk_at dksX1_cheap_0 23 rfl rfl)
theorem dX1_cheap_24 : decode cX1_cheap 24 = .ok (.getfield 7, 3) := dk_180 0 7 (dk_at dksX1_cheap_1 0 rfl rfl)
theorem dX1_cheap_27 : decode cX1_cheap 27 = .ok (.bipush 9, 2) := dk_16 9 (dk_at dksX1_cheap_1 3 rfl rfl)
theorem dX1_cheap_29 : decode cX1_cheap 29 = .ok (.iload_n 1, 1) := dk_27 (dk_at dksX1_cheap_1 5 rfl rfl)
theorem dX1_cheap_30 : decode cX1_cheap 30 = .ok (.iadd, 1) := dk_96 (dk_at dksX1_cheap_1 6 rfl rfl)
theorem dX1_cheap_31 : decode cX1_cheap 31 = .ok (.iaload, 1) := dk_46 (dk_at dksX1_cheap_1 7 rfl rfl)
theorem dX1_cheap_32 : decode cX1_cheap 32 = .ok (.iload 4, 2) := dk_21 4 (dk_at dksX1_cheap_1 8 rfl rfl)
theorem dX1_cheap_34 : decode cX1_cheap 34 = .ok (.iadd, 1) := dk_96 (dk_at dksX1_cheap_1 10 rfl rfl)
theorem dX1_cheap_35 : decode cX1_cheap 35 = .ok (.bipush 21, 2) := dk_16 21 (dk_at dksX1_cheap_1 11 rfl rfl)
theorem dX1_cheap_37 : decode cX1_cheap 37 = .ok (.if_icmp .ge 59, 3) := dk_162 0 59 (dk_at dksX1_cheap_1 13 rfl rfl)
theorem dX1_cheap_40 : decode cX1_cheap 40 = .ok (.aload_n 0, 1) := dk_42 (dk_at dksX1_cheap_1 16 rfl rfl)
theorem dX1_cheap_41 : decode cX1_cheap 41 = .ok (.iload_n 1, 1) := dk_27 (dk_at dksX1_cheap_1 17 rfl rfl)
theorem dX1_cheap_42 : decode cX1_cheap 42 = .ok (.iload 4, 2) := dk_21 4 (dk_at dksX1_cheap_1 18 rfl rfl)
theorem dX1_cheap_44 : decode cX1_cheap 44 = .ok (.invokevirtual 211, 3) := dk_182 0 211 (dk_at dksX1_cheap_1 20 rfl rfl)
theorem dX1_cheap_47 : decode cX1_cheap 47 = .ok (.istore 5, 2) := dk_54 5 (dk_at dksX1_cheap_2 0 rfl rfl)
theorem dX1_cheap_49 : decode cX1_cheap 49 = .ok (.iload 5, 2) := dk_21 5 (dk_at dksX1_cheap_2 2 rfl rfl)
theorem dX1_cheap_51 : decode cX1_cheap 51 = .ok (.iload_n 3, 1) := dk_29 (dk_at dksX1_cheap_2 4 rfl rfl)
theorem dX1_cheap_52 : decode cX1_cheap 52 = .ok (.if_icmp .ge 38, 3) := dk_162 0 38 (dk_at dksX1_cheap_2 5 rfl rfl)
theorem dX1_cheap_55 : decode cX1_cheap 55 = .ok (.iload 5, 2) := dk_21 5 (dk_at dksX1_cheap_2 8 rfl rfl)
theorem dX1_cheap_57 : decode cX1_cheap 57 = .ok (.istore_n 3, 1) := dk_62 (dk_at dksX1_cheap_2 10 rfl rfl)
theorem dX1_cheap_58 : decode cX1_cheap 58 = .ok (.iconst 0, 1) := dk_3 (dk_at dksX1_cheap_2 11 rfl rfl)
theorem dX1_cheap_59 : decode cX1_cheap 59 = .ok (.istore 6, 2) := dk_54 6 (dk_at dksX1_cheap_2 12 rfl rfl)
theorem dX1_cheap_61 : decode cX1_cheap 61 = .ok (.iload 6, 2) := dk_21 6 (dk_at dksX1_cheap_2 14 rfl rfl)
theorem dX1_cheap_63 : decode cX1_cheap 63 = .ok (.aload_n 0, 1) := dk_42 (dk_at dksX1_cheap_2 16 rfl rfl)
theorem dX1_cheap_64 : decode cX1_cheap 64 = .ok (.getfield 136, 3) := dk_180 0 136 (dk_at dksX1_cheap_2 17 rfl rfl)
theorem dX1_cheap_67 : decode cX1_cheap 67 = .ok (.if_icmp .ge 23, 3) := dk_162 0 23 (dk_at dksX1_cheap_2 20 rfl rfl)
theorem dX1_cheap_70 : decode cX1_cheap 70 = .ok (.aload_n 0, 1) := dk_42 (dk_at dksX1_cheap_2 23 rfl rfl)
theorem dX1_cheap_71 : decode cX1_cheap 71 = .ok (.getfield 41, 3) := dk_180 0 41 (dk_at dksX1_cheap_3 0 rfl rfl)
theorem dX1_cheap_74 : decode cX1_cheap 74 = .ok (.iload 6, 2) := dk_21 6 (dk_at dksX1_cheap_3 3 rfl rfl)
theorem dX1_cheap_76 : decode cX1_cheap 76 = .ok (.aload_n 0, 1) := dk_42 (dk_at dksX1_cheap_3 5 rfl rfl)
theorem dX1_cheap_77 : decode cX1_cheap 77 = .ok (.getfield 38, 3) := dk_180 0 38 (dk_at dksX1_cheap_3 6 rfl rfl)
theorem dX1_cheap_80 : decode cX1_cheap 80 = .ok (.iload 6, 2) := dk_21 6 (dk_at dksX1_cheap_3 9 rfl rfl)
theorem dX1_cheap_82 : decode cX1_cheap 82 = .ok (.iaload, 1) := dk_46 (dk_at dksX1_cheap_3 11 rfl rfl)
theorem dX1_cheap_83 : decode cX1_cheap 83 = .ok (.iastore, 1) := dk_79 (dk_at dksX1_cheap_3 12 rfl rfl)
theorem dX1_cheap_84 : decode cX1_cheap 84 = .ok (.iinc 6 1, 3) := dk_132 6 1 (dk_at dksX1_cheap_3 13 rfl rfl)
theorem dX1_cheap_87 : decode cX1_cheap 87 = .ok (.goto (-26), 3) := dk_167 255 230 (dk_at dksX1_cheap_3 16 rfl rfl)
theorem dX1_cheap_90 : decode cX1_cheap 90 = .ok (.iinc 4 1, 3) := dk_132 4 1 (dk_at dksX1_cheap_3 19 rfl rfl)
theorem dX1_cheap_93 : decode cX1_cheap 93 = .ok (.goto (-70), 3) := dk_167 255 186 (dk_at dksX1_cheap_4 0 rfl rfl)
theorem dX1_cheap_96 : decode cX1_cheap 96 = .ok (.iload_n 3, 1) := dk_29 (dk_at dksX1_cheap_4 3 rfl rfl)
theorem dX1_cheap_97 : decode cX1_cheap 97 = .ok (.ldc 210, 2) := dk_18 210 (dk_at dksX1_cheap_4 4 rfl rfl)
theorem dX1_cheap_99 : decode cX1_cheap 99 = .ok (.if_icmp .ne 6, 3) := dk_160 0 6 (dk_at dksX1_cheap_4 6 rfl rfl)
theorem dX1_cheap_102 : decode cX1_cheap 102 = .ok (.bipush (-9), 2) := dk_16 247 (dk_at dksX1_cheap_4 9 rfl rfl)
theorem dX1_cheap_104 : decode cX1_cheap 104 = .ok (.ireturn, 1) := dk_172 (dk_at dksX1_cheap_4 11 rfl rfl)
theorem dX1_cheap_105 : decode cX1_cheap 105 = .ok (.aload_n 0, 1) := dk_42 (dk_at dksX1_cheap_4 12 rfl rfl)
theorem dX1_cheap_106 : decode cX1_cheap 106 = .ok (.iload_n 2, 1) := dk_28 (dk_at dksX1_cheap_4 13 rfl rfl)
theorem dX1_cheap_107 : decode cX1_cheap 107 = .ok (.aload_n 0, 1) := dk_42 (dk_at dksX1_cheap_4 14 rfl rfl)
theorem dX1_cheap_108 : decode cX1_cheap 108 = .ok (.getfield 136, 3) := dk_180 0 136 (dk_at dksX1_cheap_4 15 rfl rfl)
theorem dX1_cheap_111 : decode cX1_cheap 111 = .ok (.invokevirtual 73, 3) := dk_182 0 73 (dk_at dksX1_cheap_4 18 rfl rfl)
theorem dX1_cheap_114 : decode cX1_cheap 114 = .ok (.iconst 0, 1) := dk_3 (dk_at dksX1_cheap_4 21 rfl rfl)
theorem dX1_cheap_115 : decode cX1_cheap 115 = .ok (.istore 4, 2) := dk_54 4 (dk_at dksX1_cheap_4 22 rfl rfl)
theorem dX1_cheap_117 : decode cX1_cheap 117 = .ok (.iload 4, 2) := dk_21 4 (dk_at dksX1_cheap_5 0 rfl rfl)
theorem dX1_cheap_119 : decode cX1_cheap 119 = .ok (.aload_n 0, 1) := dk_42 (dk_at dksX1_cheap_5 2 rfl rfl)
theorem dX1_cheap_120 : decode cX1_cheap 120 = .ok (.getfield 136, 3) := dk_180 0 136 (dk_at dksX1_cheap_5 3 rfl rfl)
theorem dX1_cheap_123 : decode cX1_cheap 123 = .ok (.if_icmp .ge 28, 3) := dk_162 0 28 (dk_at dksX1_cheap_5 6 rfl rfl)
theorem dX1_cheap_126 : decode cX1_cheap 126 = .ok (.aload_n 0, 1) := dk_42 (dk_at dksX1_cheap_5 9 rfl rfl)
theorem dX1_cheap_127 : decode cX1_cheap 127 = .ok (.getfield 19, 3) := dk_180 0 19 (dk_at dksX1_cheap_5 10 rfl rfl)
theorem dX1_cheap_130 : decode cX1_cheap 130 = .ok (.bipush 40, 2) := dk_16 40 (dk_at dksX1_cheap_5 13 rfl rfl)
theorem dX1_cheap_132 : decode cX1_cheap 132 = .ok (.iload_n 2, 1) := dk_28 (dk_at dksX1_cheap_5 15 rfl rfl)
theorem dX1_cheap_133 : decode cX1_cheap 133 = .ok (.imul, 1) := dk_104 (dk_at dksX1_cheap_5 16 rfl rfl)
theorem dX1_cheap_134 : decode cX1_cheap 134 = .ok (.iload 4, 2) := dk_21 4 (dk_at dksX1_cheap_5 17 rfl rfl)
theorem dX1_cheap_136 : decode cX1_cheap 136 = .ok (.iadd, 1) := dk_96 (dk_at dksX1_cheap_5 19 rfl rfl)
theorem dX1_cheap_137 : decode cX1_cheap 137 = .ok (.aload_n 0, 1) := dk_42 (dk_at dksX1_cheap_5 20 rfl rfl)
theorem dX1_cheap_138 : decode cX1_cheap 138 = .ok (.getfield 41, 3) := dk_180 0 41 (dk_at dksX1_cheap_5 21 rfl rfl)
theorem dX1_cheap_141 : decode cX1_cheap 141 = .ok (.iload 4, 2) := dk_21 4 (dk_at dksX1_cheap_6 0 rfl rfl)
theorem dX1_cheap_143 : decode cX1_cheap 143 = .ok (.iaload, 1) := dk_46 (dk_at dksX1_cheap_6 2 rfl rfl)
theorem dX1_cheap_144 : decode cX1_cheap 144 = .ok (.iastore, 1) := dk_79 (dk_at dksX1_cheap_6 3 rfl rfl)
theorem dX1_cheap_145 : decode cX1_cheap 145 = .ok (.iinc 4 1, 3) := dk_132 4 1 (dk_at dksX1_cheap_6 4 rfl rfl)
theorem dX1_cheap_148 : decode cX1_cheap 148 = .ok (.goto (-31), 3) := dk_167 255 225 (dk_at dksX1_cheap_6 7 rfl rfl)
theorem dX1_cheap_151 : decode cX1_cheap 151 = .ok (.iload_n 3, 1) := dk_29 (dk_at dksX1_cheap_6 10 rfl rfl)
theorem dX1_cheap_152 : decode cX1_cheap 152 = .ok (.ireturn, 1) := dk_172 (dk_at dksX1_cheap_6 11 rfl rfl)
abbrev cX1_together : ByteArray := prog_10_method_61_code
def yX1_together : MethodName := ⟨RX1, "together", "(II)I"⟩
def dkwX1_together_5 : List UInt8 := [158, 0, 8, 21, 4, 167, 0, 5, 18, 210, 172]
abbrev dktX1_together_5 : List UInt8 := dkwX1_together_5 ++ []
def dkwX1_together_4 : List UInt8 := [160, 0, 7, 3, 167, 0, 10, 42, 180, 0, 38, 21, 5, 46, 96, 54, 4, 132, 5, 1, 167, 255, 180, 29]
abbrev dktX1_together_4 : List UInt8 := dkwX1_together_4 ++ dktX1_together_5
def dkwX1_together_3 : List UInt8 := [79, 21, 4, 42, 180, 0, 38, 21, 5, 46, 16, 247, 160, 0, 8, 18, 210, 167, 0, 20, 21, 5, 27]
abbrev dktX1_together_3 : List UInt8 := dkwX1_together_3 ++ dktX1_together_4
def dkwX1_together_2 : List UInt8 := [42, 180, 0, 38, 21, 5, 21, 5, 27, 160, 0, 7, 28, 167, 0, 11, 42, 27, 29, 21, 5, 182, 0, 207]
abbrev dktX1_together_2 : List UInt8 := dkwX1_together_2 ++ dktX1_together_3
def dkwX1_together_1 : List UInt8 := [3, 27, 182, 0, 142, 184, 0, 145, 62, 28, 54, 4, 3, 54, 5, 21, 5, 42, 180, 0, 136, 162, 0, 73]
abbrev dktX1_together_1 : List UInt8 := dkwX1_together_1 ++ dktX1_together_2
def dkwX1_together_0 : List UInt8 := [42, 180, 0, 13, 27, 46, 42, 180, 0, 7, 16, 9, 27, 96, 46, 28, 96, 42, 180, 0, 7, 4, 46, 42]
abbrev dktX1_together_0 : List UInt8 := dkwX1_together_0 ++ dktX1_together_1
theorem dksX1_together_0 : cX1_together.data.toList.drop 0 = dktX1_together_0 := by decide +kernel
theorem dksX1_together_1 : cX1_together.data.toList.drop 24 = dktX1_together_1 := dk_seg dksX1_together_0 24 rfl rfl
theorem dksX1_together_2 : cX1_together.data.toList.drop 48 = dktX1_together_2 := dk_seg dksX1_together_1 24 rfl rfl
theorem dksX1_together_3 : cX1_together.data.toList.drop 72 = dktX1_together_3 := dk_seg dksX1_together_2 24 rfl rfl
theorem dksX1_together_4 : cX1_together.data.toList.drop 95 = dktX1_together_4 := dk_seg dksX1_together_3 23 rfl rfl
theorem dksX1_together_5 : cX1_together.data.toList.drop 119 = dktX1_together_5 := dk_seg dksX1_together_4 24 rfl rfl
theorem dX1_together_0 : decode cX1_together 0 = .ok (.aload_n 0, 1) := dk_42 (dk_at dksX1_together_0 0 rfl rfl)
theorem dX1_together_1 : decode cX1_together 1 = .ok (.getfield 13, 3) := dk_180 0 13 (dk_at dksX1_together_0 1 rfl rfl)
theorem dX1_together_4 : decode cX1_together 4 = .ok (.iload_n 1, 1) := dk_27 (dk_at dksX1_together_0 4 rfl rfl)
theorem dX1_together_5 : decode cX1_together 5 = .ok (.iaload, 1) := dk_46 (dk_at dksX1_together_0 5 rfl rfl)
theorem dX1_together_6 : decode cX1_together 6 = .ok (.aload_n 0, 1) := dk_42 (dk_at dksX1_together_0 6 rfl rfl)
theorem dX1_together_7 : decode cX1_together 7 = .ok (.getfield 7, 3) := dk_180 0 7 (dk_at dksX1_together_0 7 rfl rfl)
theorem dX1_together_10 : decode cX1_together 10 = .ok (.bipush 9, 2) := dk_16 9 (dk_at dksX1_together_0 10 rfl rfl)
theorem dX1_together_12 : decode cX1_together 12 = .ok (.iload_n 1, 1) := dk_27 (dk_at dksX1_together_0 12 rfl rfl)
theorem dX1_together_13 : decode cX1_together 13 = .ok (.iadd, 1) := dk_96 (dk_at dksX1_together_0 13 rfl rfl)
theorem dX1_together_14 : decode cX1_together 14 = .ok (.iaload, 1) := dk_46 (dk_at dksX1_together_0 14 rfl rfl)
theorem dX1_together_15 : decode cX1_together 15 = .ok (.iload_n 2, 1) := dk_28 (dk_at dksX1_together_0 15 rfl rfl)
theorem dX1_together_16 : decode cX1_together 16 = .ok (.iadd, 1) := dk_96 (dk_at dksX1_together_0 16 rfl rfl)
theorem dX1_together_17 : decode cX1_together 17 = .ok (.aload_n 0, 1) := dk_42 (dk_at dksX1_together_0 17 rfl rfl)
theorem dX1_together_18 : decode cX1_together 18 = .ok (.getfield 7, 3) := dk_180 0 7 (dk_at dksX1_together_0 18 rfl rfl)
theorem dX1_together_21 : decode cX1_together 21 = .ok (.iconst 1, 1) := dk_4 (dk_at dksX1_together_0 21 rfl rfl)
theorem dX1_together_22 : decode cX1_together 22 = .ok (.iaload, 1) := dk_46 (dk_at dksX1_together_0 22 rfl rfl)
theorem dX1_together_23 : decode cX1_together 23 = .ok (.aload_n 0, 1) := dk_42 (dk_at dksX1_together_0 23 rfl rfl)
theorem dX1_together_24 : decode cX1_together 24 = .ok (.iconst 0, 1) := dk_3 (dk_at dksX1_together_1 0 rfl rfl)
theorem dX1_together_25 : decode cX1_together 25 = .ok (.iload_n 1, 1) := dk_27 (dk_at dksX1_together_1 1 rfl rfl)
theorem dX1_together_26 : decode cX1_together 26 = .ok (.invokevirtual 142, 3) := dk_182 0 142 (dk_at dksX1_together_1 2 rfl rfl)
theorem dX1_together_29 : decode cX1_together 29 = .ok (.invokestatic 145, 3) := dk_184 0 145 (dk_at dksX1_together_1 5 rfl rfl)
theorem dX1_together_32 : decode cX1_together 32 = .ok (.istore_n 3, 1) := dk_62 (dk_at dksX1_together_1 8 rfl rfl)
theorem dX1_together_33 : decode cX1_together 33 = .ok (.iload_n 2, 1) := dk_28 (dk_at dksX1_together_1 9 rfl rfl)
theorem dX1_together_34 : decode cX1_together 34 = .ok (.istore 4, 2) := dk_54 4 (dk_at dksX1_together_1 10 rfl rfl)
theorem dX1_together_36 : decode cX1_together 36 = .ok (.iconst 0, 1) := dk_3 (dk_at dksX1_together_1 12 rfl rfl)
theorem dX1_together_37 : decode cX1_together 37 = .ok (.istore 5, 2) := dk_54 5 (dk_at dksX1_together_1 13 rfl rfl)
theorem dX1_together_39 : decode cX1_together 39 = .ok (.iload 5, 2) := dk_21 5 (dk_at dksX1_together_1 15 rfl rfl)
theorem dX1_together_41 : decode cX1_together 41 = .ok (.aload_n 0, 1) := dk_42 (dk_at dksX1_together_1 17 rfl rfl)
theorem dX1_together_42 : decode cX1_together 42 = .ok (.getfield 136, 3) := dk_180 0 136 (dk_at dksX1_together_1 18 rfl rfl)
theorem dX1_together_45 : decode cX1_together 45 = .ok (.if_icmp .ge 73, 3) := dk_162 0 73 (dk_at dksX1_together_1 21 rfl rfl)
theorem dX1_together_48 : decode cX1_together 48 = .ok (.aload_n 0, 1) := dk_42 (dk_at dksX1_together_2 0 rfl rfl)
theorem dX1_together_49 : decode cX1_together 49 = .ok (.getfield 38, 3) := dk_180 0 38 (dk_at dksX1_together_2 1 rfl rfl)
theorem dX1_together_52 : decode cX1_together 52 = .ok (.iload 5, 2) := dk_21 5 (dk_at dksX1_together_2 4 rfl rfl)
theorem dX1_together_54 : decode cX1_together 54 = .ok (.iload 5, 2) := dk_21 5 (dk_at dksX1_together_2 6 rfl rfl)
theorem dX1_together_56 : decode cX1_together 56 = .ok (.iload_n 1, 1) := dk_27 (dk_at dksX1_together_2 8 rfl rfl)
theorem dX1_together_57 : decode cX1_together 57 = .ok (.if_icmp .ne 7, 3) := dk_160 0 7 (dk_at dksX1_together_2 9 rfl rfl)
theorem dX1_together_60 : decode cX1_together 60 = .ok (.iload_n 2, 1) := dk_28 (dk_at dksX1_together_2 12 rfl rfl)
theorem dX1_together_61 : decode cX1_together 61 = .ok (.goto 11, 3) := dk_167 0 11 (dk_at dksX1_together_2 13 rfl rfl)
theorem dX1_together_64 : decode cX1_together 64 = .ok (.aload_n 0, 1) := dk_42 (dk_at dksX1_together_2 16 rfl rfl)
theorem dX1_together_65 : decode cX1_together 65 = .ok (.iload_n 1, 1) := dk_27 (dk_at dksX1_together_2 17 rfl rfl)
theorem dX1_together_66 : decode cX1_together 66 = .ok (.iload_n 3, 1) := dk_29 (dk_at dksX1_together_2 18 rfl rfl)
theorem dX1_together_67 : decode cX1_together 67 = .ok (.iload 5, 2) := dk_21 5 (dk_at dksX1_together_2 19 rfl rfl)
theorem dX1_together_69 : decode cX1_together 69 = .ok (.invokevirtual 207, 3) := dk_182 0 207 (dk_at dksX1_together_2 21 rfl rfl)
theorem dX1_together_72 : decode cX1_together 72 = .ok (.iastore, 1) := dk_79 (dk_at dksX1_together_3 0 rfl rfl)
theorem dX1_together_73 : decode cX1_together 73 = .ok (.iload 4, 2) := dk_21 4 (dk_at dksX1_together_3 1 rfl rfl)
theorem dX1_together_75 : decode cX1_together 75 = .ok (.aload_n 0, 1) := dk_42 (dk_at dksX1_together_3 3 rfl rfl)
theorem dX1_together_76 : decode cX1_together 76 = .ok (.getfield 38, 3) := dk_180 0 38 (dk_at dksX1_together_3 4 rfl rfl)
theorem dX1_together_79 : decode cX1_together 79 = .ok (.iload 5, 2) := dk_21 5 (dk_at dksX1_together_3 7 rfl rfl)
theorem dX1_together_81 : decode cX1_together 81 = .ok (.iaload, 1) := dk_46 (dk_at dksX1_together_3 9 rfl rfl)
theorem dX1_together_82 : decode cX1_together 82 = .ok (.bipush (-9), 2) := dk_16 247 (dk_at dksX1_together_3 10 rfl rfl)
theorem dX1_together_84 : decode cX1_together 84 = .ok (.if_icmp .ne 8, 3) := dk_160 0 8 (dk_at dksX1_together_3 12 rfl rfl)
theorem dX1_together_87 : decode cX1_together 87 = .ok (.ldc 210, 2) := dk_18 210 (dk_at dksX1_together_3 15 rfl rfl)
theorem dX1_together_89 : decode cX1_together 89 = .ok (.goto 20, 3) := dk_167 0 20 (dk_at dksX1_together_3 17 rfl rfl)
theorem dX1_together_92 : decode cX1_together 92 = .ok (.iload 5, 2) := dk_21 5 (dk_at dksX1_together_3 20 rfl rfl)
theorem dX1_together_94 : decode cX1_together 94 = .ok (.iload_n 1, 1) := dk_27 (dk_at dksX1_together_3 22 rfl rfl)
theorem dX1_together_95 : decode cX1_together 95 = .ok (.if_icmp .ne 7, 3) := dk_160 0 7 (dk_at dksX1_together_4 0 rfl rfl)
theorem dX1_together_98 : decode cX1_together 98 = .ok (.iconst 0, 1) := dk_3 (dk_at dksX1_together_4 3 rfl rfl)
theorem dX1_together_99 : decode cX1_together 99 = .ok (.goto 10, 3) := dk_167 0 10 (dk_at dksX1_together_4 4 rfl rfl)
theorem dX1_together_102 : decode cX1_together 102 = .ok (.aload_n 0, 1) := dk_42 (dk_at dksX1_together_4 7 rfl rfl)
theorem dX1_together_103 : decode cX1_together 103 = .ok (.getfield 38, 3) := dk_180 0 38 (dk_at dksX1_together_4 8 rfl rfl)
theorem dX1_together_106 : decode cX1_together 106 = .ok (.iload 5, 2) := dk_21 5 (dk_at dksX1_together_4 11 rfl rfl)
theorem dX1_together_108 : decode cX1_together 108 = .ok (.iaload, 1) := dk_46 (dk_at dksX1_together_4 13 rfl rfl)
theorem dX1_together_109 : decode cX1_together 109 = .ok (.iadd, 1) := dk_96 (dk_at dksX1_together_4 14 rfl rfl)
theorem dX1_together_110 : decode cX1_together 110 = .ok (.istore 4, 2) := dk_54 4 (dk_at dksX1_together_4 15 rfl rfl)
theorem dX1_together_112 : decode cX1_together 112 = .ok (.iinc 5 1, 3) := dk_132 5 1 (dk_at dksX1_together_4 17 rfl rfl)
theorem dX1_together_115 : decode cX1_together 115 = .ok (.goto (-76), 3) := dk_167 255 180 (dk_at dksX1_together_4 20 rfl rfl)
theorem dX1_together_118 : decode cX1_together 118 = .ok (.iload_n 3, 1) := dk_29 (dk_at dksX1_together_4 23 rfl rfl)
theorem dX1_together_119 : decode cX1_together 119 = .ok (.ifCond .le 8, 3) := dk_158 0 8 (dk_at dksX1_together_5 0 rfl rfl)
theorem dX1_together_122 : decode cX1_together 122 = .ok (.iload 4, 2) := dk_21 4 (dk_at dksX1_together_5 3 rfl rfl)
theorem dX1_together_124 : decode cX1_together 124 = .ok (.goto 5, 3) := dk_167 0 5 (dk_at dksX1_together_5 5 rfl rfl)
theorem dX1_together_127 : decode cX1_together 127 = .ok (.ldc 210, 2) := dk_18 210 (dk_at dksX1_together_5 8 rfl rfl)
theorem dX1_together_129 : decode cX1_together 129 = .ok (.ireturn, 1) := dk_172 (dk_at dksX1_together_5 10 rfl rfl)
abbrev cX1_shamed : ByteArray := prog_10_method_60_code
def yX1_shamed : MethodName := ⟨RX1, "shamed", "(III)I"⟩
def dkwX1_shamed_2 : List UInt8 := [167, 255, 214, 16, 247, 172]
abbrev dktX1_shamed_2 : List UInt8 := dkwX1_shamed_2 ++ []
def dkwX1_shamed_1 : List UInt8 := [180, 0, 7, 16, 9, 29, 96, 46, 21, 4, 100, 182, 0, 203, 153, 0, 6, 21, 4, 172, 132, 4, 1]
abbrev dktX1_shamed_1 : List UInt8 := dkwX1_shamed_1 ++ dktX1_shamed_2
def dkwX1_shamed_0 : List UInt8 := [3, 54, 4, 21, 4, 42, 180, 0, 7, 16, 9, 29, 96, 46, 163, 0, 34, 42, 27, 28, 29, 42]
abbrev dktX1_shamed_0 : List UInt8 := dkwX1_shamed_0 ++ dktX1_shamed_1
theorem dksX1_shamed_0 : cX1_shamed.data.toList.drop 0 = dktX1_shamed_0 := by decide +kernel
theorem dksX1_shamed_1 : cX1_shamed.data.toList.drop 22 = dktX1_shamed_1 := dk_seg dksX1_shamed_0 22 rfl rfl
theorem dksX1_shamed_2 : cX1_shamed.data.toList.drop 45 = dktX1_shamed_2 := dk_seg dksX1_shamed_1 23 rfl rfl
theorem dX1_shamed_0 : decode cX1_shamed 0 = .ok (.iconst 0, 1) := dk_3 (dk_at dksX1_shamed_0 0 rfl rfl)
theorem dX1_shamed_1 : decode cX1_shamed 1 = .ok (.istore 4, 2) := dk_54 4 (dk_at dksX1_shamed_0 1 rfl rfl)
theorem dX1_shamed_3 : decode cX1_shamed 3 = .ok (.iload 4, 2) := dk_21 4 (dk_at dksX1_shamed_0 3 rfl rfl)
theorem dX1_shamed_5 : decode cX1_shamed 5 = .ok (.aload_n 0, 1) := dk_42 (dk_at dksX1_shamed_0 5 rfl rfl)
theorem dX1_shamed_6 : decode cX1_shamed 6 = .ok (.getfield 7, 3) := dk_180 0 7 (dk_at dksX1_shamed_0 6 rfl rfl)
theorem dX1_shamed_9 : decode cX1_shamed 9 = .ok (.bipush 9, 2) := dk_16 9 (dk_at dksX1_shamed_0 9 rfl rfl)
theorem dX1_shamed_11 : decode cX1_shamed 11 = .ok (.iload_n 3, 1) := dk_29 (dk_at dksX1_shamed_0 11 rfl rfl)
theorem dX1_shamed_12 : decode cX1_shamed 12 = .ok (.iadd, 1) := dk_96 (dk_at dksX1_shamed_0 12 rfl rfl)
theorem dX1_shamed_13 : decode cX1_shamed 13 = .ok (.iaload, 1) := dk_46 (dk_at dksX1_shamed_0 13 rfl rfl)
theorem dX1_shamed_14 : decode cX1_shamed 14 = .ok (.if_icmp .gt 34, 3) := dk_163 0 34 (dk_at dksX1_shamed_0 14 rfl rfl)
theorem dX1_shamed_17 : decode cX1_shamed 17 = .ok (.aload_n 0, 1) := dk_42 (dk_at dksX1_shamed_0 17 rfl rfl)
theorem dX1_shamed_18 : decode cX1_shamed 18 = .ok (.iload_n 1, 1) := dk_27 (dk_at dksX1_shamed_0 18 rfl rfl)
theorem dX1_shamed_19 : decode cX1_shamed 19 = .ok (.iload_n 2, 1) := dk_28 (dk_at dksX1_shamed_0 19 rfl rfl)
theorem dX1_shamed_20 : decode cX1_shamed 20 = .ok (.iload_n 3, 1) := dk_29 (dk_at dksX1_shamed_0 20 rfl rfl)
theorem dX1_shamed_21 : decode cX1_shamed 21 = .ok (.aload_n 0, 1) := dk_42 (dk_at dksX1_shamed_0 21 rfl rfl)
theorem dX1_shamed_22 : decode cX1_shamed 22 = .ok (.getfield 7, 3) := dk_180 0 7 (dk_at dksX1_shamed_1 0 rfl rfl)
theorem dX1_shamed_25 : decode cX1_shamed 25 = .ok (.bipush 9, 2) := dk_16 9 (dk_at dksX1_shamed_1 3 rfl rfl)
theorem dX1_shamed_27 : decode cX1_shamed 27 = .ok (.iload_n 3, 1) := dk_29 (dk_at dksX1_shamed_1 5 rfl rfl)
theorem dX1_shamed_28 : decode cX1_shamed 28 = .ok (.iadd, 1) := dk_96 (dk_at dksX1_shamed_1 6 rfl rfl)
theorem dX1_shamed_29 : decode cX1_shamed 29 = .ok (.iaload, 1) := dk_46 (dk_at dksX1_shamed_1 7 rfl rfl)
theorem dX1_shamed_30 : decode cX1_shamed 30 = .ok (.iload 4, 2) := dk_21 4 (dk_at dksX1_shamed_1 8 rfl rfl)
theorem dX1_shamed_32 : decode cX1_shamed 32 = .ok (.isub, 1) := dk_100 (dk_at dksX1_shamed_1 10 rfl rfl)
theorem dX1_shamed_33 : decode cX1_shamed 33 = .ok (.invokevirtual 203, 3) := dk_182 0 203 (dk_at dksX1_shamed_1 11 rfl rfl)
theorem dX1_shamed_36 : decode cX1_shamed 36 = .ok (.ifCond .eq 6, 3) := dk_153 0 6 (dk_at dksX1_shamed_1 14 rfl rfl)
theorem dX1_shamed_39 : decode cX1_shamed 39 = .ok (.iload 4, 2) := dk_21 4 (dk_at dksX1_shamed_1 17 rfl rfl)
theorem dX1_shamed_41 : decode cX1_shamed 41 = .ok (.ireturn, 1) := dk_172 (dk_at dksX1_shamed_1 19 rfl rfl)
theorem dX1_shamed_42 : decode cX1_shamed 42 = .ok (.iinc 4 1, 3) := dk_132 4 1 (dk_at dksX1_shamed_1 20 rfl rfl)
theorem dX1_shamed_45 : decode cX1_shamed 45 = .ok (.goto (-42), 3) := dk_167 255 214 (dk_at dksX1_shamed_2 0 rfl rfl)
theorem dX1_shamed_48 : decode cX1_shamed 48 = .ok (.bipush (-9), 2) := dk_16 247 (dk_at dksX1_shamed_2 3 rfl rfl)
theorem dX1_shamed_50 : decode cX1_shamed 50 = .ok (.ireturn, 1) := dk_172 (dk_at dksX1_shamed_2 5 rfl rfl)
abbrev cX1_isAhead : ByteArray := prog_10_method_59_code
def yX1_isAhead : MethodName := ⟨RX1, "isAhead", "(IIII)Z"⟩
def dkwX1_isAhead_3 : List UInt8 := [161, 0, 14, 21, 5, 28, 160, 0, 12, 21, 6, 153, 0, 7, 4, 167, 0, 4, 3, 172]
abbrev dktX1_isAhead_3 : List UInt8 := dkwX1_isAhead_3 ++ []
def dkwX1_isAhead_2 : List UInt8 := [3, 29, 182, 0, 142, 160, 0, 12, 27, 29, 162, 0, 7, 4, 167, 0, 4, 3, 54, 6, 21, 5, 28]
abbrev dktX1_isAhead_2 : List UInt8 := dkwX1_isAhead_2 ++ dktX1_isAhead_3
def dkwX1_isAhead_1 : List UInt8 := [54, 5, 42, 3, 27, 182, 0, 142, 42, 3, 29, 182, 0, 142, 161, 0, 23, 42, 3, 27, 182, 0, 142, 42]
abbrev dktX1_isAhead_1 : List UInt8 := dkwX1_isAhead_1 ++ dktX1_isAhead_2
def dkwX1_isAhead_0 : List UInt8 := [42, 180, 0, 13, 29, 46, 21, 4, 42, 180, 0, 7, 4, 46, 42, 3, 29, 182, 0, 142, 184, 0, 145]
abbrev dktX1_isAhead_0 : List UInt8 := dkwX1_isAhead_0 ++ dktX1_isAhead_1
theorem dksX1_isAhead_0 : cX1_isAhead.data.toList.drop 0 = dktX1_isAhead_0 := by decide +kernel
theorem dksX1_isAhead_1 : cX1_isAhead.data.toList.drop 23 = dktX1_isAhead_1 := dk_seg dksX1_isAhead_0 23 rfl rfl
theorem dksX1_isAhead_2 : cX1_isAhead.data.toList.drop 47 = dktX1_isAhead_2 := dk_seg dksX1_isAhead_1 24 rfl rfl
theorem dksX1_isAhead_3 : cX1_isAhead.data.toList.drop 70 = dktX1_isAhead_3 := dk_seg dksX1_isAhead_2 23 rfl rfl
theorem dX1_isAhead_0 : decode cX1_isAhead 0 = .ok (.aload_n 0, 1) := dk_42 (dk_at dksX1_isAhead_0 0 rfl rfl)
theorem dX1_isAhead_1 : decode cX1_isAhead 1 = .ok (.getfield 13, 3) := dk_180 0 13 (dk_at dksX1_isAhead_0 1 rfl rfl)
theorem dX1_isAhead_4 : decode cX1_isAhead 4 = .ok (.iload_n 3, 1) := dk_29 (dk_at dksX1_isAhead_0 4 rfl rfl)
theorem dX1_isAhead_5 : decode cX1_isAhead 5 = .ok (.iaload, 1) := dk_46 (dk_at dksX1_isAhead_0 5 rfl rfl)
theorem dX1_isAhead_6 : decode cX1_isAhead 6 = .ok (.iload 4, 2) := dk_21 4 (dk_at dksX1_isAhead_0 6 rfl rfl)
theorem dX1_isAhead_8 : decode cX1_isAhead 8 = .ok (.aload_n 0, 1) := dk_42 (dk_at dksX1_isAhead_0 8 rfl rfl)
theorem dX1_isAhead_9 : decode cX1_isAhead 9 = .ok (.getfield 7, 3) := dk_180 0 7 (dk_at dksX1_isAhead_0 9 rfl rfl)
theorem dX1_isAhead_12 : decode cX1_isAhead 12 = .ok (.iconst 1, 1) := dk_4 (dk_at dksX1_isAhead_0 12 rfl rfl)
theorem dX1_isAhead_13 : decode cX1_isAhead 13 = .ok (.iaload, 1) := dk_46 (dk_at dksX1_isAhead_0 13 rfl rfl)
theorem dX1_isAhead_14 : decode cX1_isAhead 14 = .ok (.aload_n 0, 1) := dk_42 (dk_at dksX1_isAhead_0 14 rfl rfl)
theorem dX1_isAhead_15 : decode cX1_isAhead 15 = .ok (.iconst 0, 1) := dk_3 (dk_at dksX1_isAhead_0 15 rfl rfl)
theorem dX1_isAhead_16 : decode cX1_isAhead 16 = .ok (.iload_n 3, 1) := dk_29 (dk_at dksX1_isAhead_0 16 rfl rfl)
theorem dX1_isAhead_17 : decode cX1_isAhead 17 = .ok (.invokevirtual 142, 3) := dk_182 0 142 (dk_at dksX1_isAhead_0 17 rfl rfl)
theorem dX1_isAhead_20 : decode cX1_isAhead 20 = .ok (.invokestatic 145, 3) := dk_184 0 145 (dk_at dksX1_isAhead_0 20 rfl rfl)
theorem dX1_isAhead_23 : decode cX1_isAhead 23 = .ok (.istore 5, 2) := dk_54 5 (dk_at dksX1_isAhead_1 0 rfl rfl)
theorem dX1_isAhead_25 : decode cX1_isAhead 25 = .ok (.aload_n 0, 1) := dk_42 (dk_at dksX1_isAhead_1 2 rfl rfl)
theorem dX1_isAhead_26 : decode cX1_isAhead 26 = .ok (.iconst 0, 1) := dk_3 (dk_at dksX1_isAhead_1 3 rfl rfl)
theorem dX1_isAhead_27 : decode cX1_isAhead 27 = .ok (.iload_n 1, 1) := dk_27 (dk_at dksX1_isAhead_1 4 rfl rfl)
theorem dX1_isAhead_28 : decode cX1_isAhead 28 = .ok (.invokevirtual 142, 3) := dk_182 0 142 (dk_at dksX1_isAhead_1 5 rfl rfl)
theorem dX1_isAhead_31 : decode cX1_isAhead 31 = .ok (.aload_n 0, 1) := dk_42 (dk_at dksX1_isAhead_1 8 rfl rfl)
theorem dX1_isAhead_32 : decode cX1_isAhead 32 = .ok (.iconst 0, 1) := dk_3 (dk_at dksX1_isAhead_1 9 rfl rfl)
theorem dX1_isAhead_33 : decode cX1_isAhead 33 = .ok (.iload_n 3, 1) := dk_29 (dk_at dksX1_isAhead_1 10 rfl rfl)
theorem dX1_isAhead_34 : decode cX1_isAhead 34 = .ok (.invokevirtual 142, 3) := dk_182 0 142 (dk_at dksX1_isAhead_1 11 rfl rfl)
theorem dX1_isAhead_37 : decode cX1_isAhead 37 = .ok (.if_icmp .lt 23, 3) := dk_161 0 23 (dk_at dksX1_isAhead_1 14 rfl rfl)
theorem dX1_isAhead_40 : decode cX1_isAhead 40 = .ok (.aload_n 0, 1) := dk_42 (dk_at dksX1_isAhead_1 17 rfl rfl)
theorem dX1_isAhead_41 : decode cX1_isAhead 41 = .ok (.iconst 0, 1) := dk_3 (dk_at dksX1_isAhead_1 18 rfl rfl)
theorem dX1_isAhead_42 : decode cX1_isAhead 42 = .ok (.iload_n 1, 1) := dk_27 (dk_at dksX1_isAhead_1 19 rfl rfl)
theorem dX1_isAhead_43 : decode cX1_isAhead 43 = .ok (.invokevirtual 142, 3) := dk_182 0 142 (dk_at dksX1_isAhead_1 20 rfl rfl)
theorem dX1_isAhead_46 : decode cX1_isAhead 46 = .ok (.aload_n 0, 1) := dk_42 (dk_at dksX1_isAhead_1 23 rfl rfl)
theorem dX1_isAhead_47 : decode cX1_isAhead 47 = .ok (.iconst 0, 1) := dk_3 (dk_at dksX1_isAhead_2 0 rfl rfl)
theorem dX1_isAhead_48 : decode cX1_isAhead 48 = .ok (.iload_n 3, 1) := dk_29 (dk_at dksX1_isAhead_2 1 rfl rfl)
theorem dX1_isAhead_49 : decode cX1_isAhead 49 = .ok (.invokevirtual 142, 3) := dk_182 0 142 (dk_at dksX1_isAhead_2 2 rfl rfl)
theorem dX1_isAhead_52 : decode cX1_isAhead 52 = .ok (.if_icmp .ne 12, 3) := dk_160 0 12 (dk_at dksX1_isAhead_2 5 rfl rfl)
theorem dX1_isAhead_55 : decode cX1_isAhead 55 = .ok (.iload_n 1, 1) := dk_27 (dk_at dksX1_isAhead_2 8 rfl rfl)
theorem dX1_isAhead_56 : decode cX1_isAhead 56 = .ok (.iload_n 3, 1) := dk_29 (dk_at dksX1_isAhead_2 9 rfl rfl)
theorem dX1_isAhead_57 : decode cX1_isAhead 57 = .ok (.if_icmp .ge 7, 3) := dk_162 0 7 (dk_at dksX1_isAhead_2 10 rfl rfl)
theorem dX1_isAhead_60 : decode cX1_isAhead 60 = .ok (.iconst 1, 1) := dk_4 (dk_at dksX1_isAhead_2 13 rfl rfl)
theorem dX1_isAhead_61 : decode cX1_isAhead 61 = .ok (.goto 4, 3) := dk_167 0 4 (dk_at dksX1_isAhead_2 14 rfl rfl)
theorem dX1_isAhead_64 : decode cX1_isAhead 64 = .ok (.iconst 0, 1) := dk_3 (dk_at dksX1_isAhead_2 17 rfl rfl)
theorem dX1_isAhead_65 : decode cX1_isAhead 65 = .ok (.istore 6, 2) := dk_54 6 (dk_at dksX1_isAhead_2 18 rfl rfl)
theorem dX1_isAhead_67 : decode cX1_isAhead 67 = .ok (.iload 5, 2) := dk_21 5 (dk_at dksX1_isAhead_2 20 rfl rfl)
theorem dX1_isAhead_69 : decode cX1_isAhead 69 = .ok (.iload_n 2, 1) := dk_28 (dk_at dksX1_isAhead_2 22 rfl rfl)
theorem dX1_isAhead_70 : decode cX1_isAhead 70 = .ok (.if_icmp .lt 14, 3) := dk_161 0 14 (dk_at dksX1_isAhead_3 0 rfl rfl)
theorem dX1_isAhead_73 : decode cX1_isAhead 73 = .ok (.iload 5, 2) := dk_21 5 (dk_at dksX1_isAhead_3 3 rfl rfl)
theorem dX1_isAhead_75 : decode cX1_isAhead 75 = .ok (.iload_n 2, 1) := dk_28 (dk_at dksX1_isAhead_3 5 rfl rfl)
theorem dX1_isAhead_76 : decode cX1_isAhead 76 = .ok (.if_icmp .ne 12, 3) := dk_160 0 12 (dk_at dksX1_isAhead_3 6 rfl rfl)
theorem dX1_isAhead_79 : decode cX1_isAhead 79 = .ok (.iload 6, 2) := dk_21 6 (dk_at dksX1_isAhead_3 9 rfl rfl)
theorem dX1_isAhead_81 : decode cX1_isAhead 81 = .ok (.ifCond .eq 7, 3) := dk_153 0 7 (dk_at dksX1_isAhead_3 11 rfl rfl)
theorem dX1_isAhead_84 : decode cX1_isAhead 84 = .ok (.iconst 1, 1) := dk_4 (dk_at dksX1_isAhead_3 14 rfl rfl)
theorem dX1_isAhead_85 : decode cX1_isAhead 85 = .ok (.goto 4, 3) := dk_167 0 4 (dk_at dksX1_isAhead_3 15 rfl rfl)
theorem dX1_isAhead_88 : decode cX1_isAhead 88 = .ok (.iconst 0, 1) := dk_3 (dk_at dksX1_isAhead_3 18 rfl rfl)
theorem dX1_isAhead_89 : decode cX1_isAhead 89 = .ok (.ireturn, 1) := dk_172 (dk_at dksX1_isAhead_3 19 rfl rfl)
abbrev cX1_darings : ByteArray := prog_10_method_66_code
def yX1_darings : MethodName := ⟨RX1, "darings", "(II)I"⟩
def dkwX1_darings_1 : List UInt8 := [153, 0, 7, 29, 167, 0, 9, 42, 27, 28, 182, 0, 222, 172]
abbrev dktX1_darings_1 : List UInt8 := dkwX1_darings_1 ++ []
def dkwX1_darings_0 : List UInt8 := [42, 27, 182, 0, 162, 153, 0, 10, 28, 184, 0, 65, 154, 0, 5, 2, 172, 42, 28, 182, 0, 219, 62, 29]
abbrev dktX1_darings_0 : List UInt8 := dkwX1_darings_0 ++ dktX1_darings_1
theorem dksX1_darings_0 : cX1_darings.data.toList.drop 0 = dktX1_darings_0 := by decide +kernel
theorem dksX1_darings_1 : cX1_darings.data.toList.drop 24 = dktX1_darings_1 := dk_seg dksX1_darings_0 24 rfl rfl
theorem dX1_darings_0 : decode cX1_darings 0 = .ok (.aload_n 0, 1) := dk_42 (dk_at dksX1_darings_0 0 rfl rfl)
theorem dX1_darings_1 : decode cX1_darings 1 = .ok (.iload_n 1, 1) := dk_27 (dk_at dksX1_darings_0 1 rfl rfl)
theorem dX1_darings_2 : decode cX1_darings 2 = .ok (.invokevirtual 162, 3) := dk_182 0 162 (dk_at dksX1_darings_0 2 rfl rfl)
theorem dX1_darings_5 : decode cX1_darings 5 = .ok (.ifCond .eq 10, 3) := dk_153 0 10 (dk_at dksX1_darings_0 5 rfl rfl)
theorem dX1_darings_8 : decode cX1_darings 8 = .ok (.iload_n 2, 1) := dk_28 (dk_at dksX1_darings_0 8 rfl rfl)
theorem dX1_darings_9 : decode cX1_darings 9 = .ok (.invokestatic 65, 3) := dk_184 0 65 (dk_at dksX1_darings_0 9 rfl rfl)
theorem dX1_darings_12 : decode cX1_darings 12 = .ok (.ifCond .ne 5, 3) := dk_154 0 5 (dk_at dksX1_darings_0 12 rfl rfl)
theorem dX1_darings_15 : decode cX1_darings 15 = .ok (.iconst (-1), 1) := dk_2 (dk_at dksX1_darings_0 15 rfl rfl)
theorem dX1_darings_16 : decode cX1_darings 16 = .ok (.ireturn, 1) := dk_172 (dk_at dksX1_darings_0 16 rfl rfl)
theorem dX1_darings_17 : decode cX1_darings 17 = .ok (.aload_n 0, 1) := dk_42 (dk_at dksX1_darings_0 17 rfl rfl)
theorem dX1_darings_18 : decode cX1_darings 18 = .ok (.iload_n 2, 1) := dk_28 (dk_at dksX1_darings_0 18 rfl rfl)
theorem dX1_darings_19 : decode cX1_darings 19 = .ok (.invokevirtual 219, 3) := dk_182 0 219 (dk_at dksX1_darings_0 19 rfl rfl)
theorem dX1_darings_22 : decode cX1_darings 22 = .ok (.istore_n 3, 1) := dk_62 (dk_at dksX1_darings_0 22 rfl rfl)
theorem dX1_darings_23 : decode cX1_darings 23 = .ok (.iload_n 3, 1) := dk_29 (dk_at dksX1_darings_0 23 rfl rfl)
theorem dX1_darings_24 : decode cX1_darings 24 = .ok (.ifCond .eq 7, 3) := dk_153 0 7 (dk_at dksX1_darings_1 0 rfl rfl)
theorem dX1_darings_27 : decode cX1_darings 27 = .ok (.iload_n 3, 1) := dk_29 (dk_at dksX1_darings_1 3 rfl rfl)
theorem dX1_darings_28 : decode cX1_darings 28 = .ok (.goto 9, 3) := dk_167 0 9 (dk_at dksX1_darings_1 4 rfl rfl)
theorem dX1_darings_31 : decode cX1_darings 31 = .ok (.aload_n 0, 1) := dk_42 (dk_at dksX1_darings_1 7 rfl rfl)
theorem dX1_darings_32 : decode cX1_darings 32 = .ok (.iload_n 1, 1) := dk_27 (dk_at dksX1_darings_1 8 rfl rfl)
theorem dX1_darings_33 : decode cX1_darings 33 = .ok (.iload_n 2, 1) := dk_28 (dk_at dksX1_darings_1 9 rfl rfl)
theorem dX1_darings_34 : decode cX1_darings 34 = .ok (.invokevirtual 222, 3) := dk_182 0 222 (dk_at dksX1_darings_1 10 rfl rfl)
theorem dX1_darings_37 : decode cX1_darings 37 = .ok (.ireturn, 1) := dk_172 (dk_at dksX1_darings_1 13 rfl rfl)
abbrev cX1_noRow : ByteArray := prog_10_method_63_code
def yX1_noRow : MethodName := ⟨RX1, "noRow", "(I)I"⟩
def dkwX1_noRow_4 : List UInt8 := [6, 182, 0, 69, 172]
abbrev dktX1_noRow_4 : List UInt8 := dkwX1_noRow_4 ++ []
def dkwX1_noRow_3 : List UInt8 := [153, 0, 7, 4, 167, 0, 4, 3, 61, 132, 3, 1, 167, 255, 215, 28, 153, 0, 7, 3, 167, 0, 8, 42]
abbrev dktX1_noRow_3 : List UInt8 := dkwX1_noRow_3 ++ dktX1_noRow_4
def dkwX1_noRow_2 : List UInt8 := [27, 46, 162, 0, 37, 28, 153, 0, 25, 42, 42, 180, 0, 19, 16, 40, 27, 104, 29, 96, 46, 182, 0, 162]
abbrev dktX1_noRow_2 : List UInt8 := dkwX1_noRow_2 ++ dktX1_noRow_3
def dkwX1_noRow_1 : List UInt8 := [20, 0, 214, 184, 0, 59, 154, 0, 9, 42, 8, 182, 0, 69, 172, 4, 61, 3, 62, 29, 42, 180, 0, 16]
abbrev dktX1_noRow_1 : List UInt8 := dkwX1_noRow_1 ++ dktX1_noRow_2
def dkwX1_noRow_0 : List UInt8 := [42, 180, 0, 16, 27, 46, 156, 0, 9, 42, 4, 182, 0, 69, 172, 42, 180, 0, 16, 27, 46, 133, 10]
abbrev dktX1_noRow_0 : List UInt8 := dkwX1_noRow_0 ++ dktX1_noRow_1
theorem dksX1_noRow_0 : cX1_noRow.data.toList.drop 0 = dktX1_noRow_0 := by decide +kernel
theorem dksX1_noRow_1 : cX1_noRow.data.toList.drop 23 = dktX1_noRow_1 := dk_seg dksX1_noRow_0 23 rfl rfl
theorem dksX1_noRow_2 : cX1_noRow.data.toList.drop 47 = dktX1_noRow_2 := dk_seg dksX1_noRow_1 24 rfl rfl
theorem dksX1_noRow_3 : cX1_noRow.data.toList.drop 71 = dktX1_noRow_3 := dk_seg dksX1_noRow_2 24 rfl rfl
theorem dksX1_noRow_4 : cX1_noRow.data.toList.drop 95 = dktX1_noRow_4 := dk_seg dksX1_noRow_3 24 rfl rfl
theorem dX1_noRow_0 : decode cX1_noRow 0 = .ok (.aload_n 0, 1) := dk_42 (dk_at dksX1_noRow_0 0 rfl rfl)
theorem dX1_noRow_1 : decode cX1_noRow 1 = .ok (.getfield 16, 3) := dk_180 0 16 (dk_at dksX1_noRow_0 1 rfl rfl)
theorem dX1_noRow_4 : decode cX1_noRow 4 = .ok (.iload_n 1, 1) := dk_27 (dk_at dksX1_noRow_0 4 rfl rfl)
theorem dX1_noRow_5 : decode cX1_noRow 5 = .ok (.iaload, 1) := dk_46 (dk_at dksX1_noRow_0 5 rfl rfl)
theorem dX1_noRow_6 : decode cX1_noRow 6 = .ok (.ifCond .ge 9, 3) := dk_156 0 9 (dk_at dksX1_noRow_0 6 rfl rfl)
theorem dX1_noRow_9 : decode cX1_noRow 9 = .ok (.aload_n 0, 1) := dk_42 (dk_at dksX1_noRow_0 9 rfl rfl)
theorem dX1_noRow_10 : decode cX1_noRow 10 = .ok (.iconst 1, 1) := dk_4 (dk_at dksX1_noRow_0 10 rfl rfl)
theorem dX1_noRow_11 : decode cX1_noRow 11 = .ok (.invokevirtual 69, 3) := dk_182 0 69 (dk_at dksX1_noRow_0 11 rfl rfl)
theorem dX1_noRow_14 : decode cX1_noRow 14 = .ok (.ireturn, 1) := dk_172 (dk_at dksX1_noRow_0 14 rfl rfl)
theorem dX1_noRow_15 : decode cX1_noRow 15 = .ok (.aload_n 0, 1) := dk_42 (dk_at dksX1_noRow_0 15 rfl rfl)
theorem dX1_noRow_16 : decode cX1_noRow 16 = .ok (.getfield 16, 3) := dk_180 0 16 (dk_at dksX1_noRow_0 16 rfl rfl)
theorem dX1_noRow_19 : decode cX1_noRow 19 = .ok (.iload_n 1, 1) := dk_27 (dk_at dksX1_noRow_0 19 rfl rfl)
theorem dX1_noRow_20 : decode cX1_noRow 20 = .ok (.iaload, 1) := dk_46 (dk_at dksX1_noRow_0 20 rfl rfl)
theorem dX1_noRow_21 : decode cX1_noRow 21 = .ok (.i2l, 1) := dk_133 (dk_at dksX1_noRow_0 21 rfl rfl)
theorem dX1_noRow_22 : decode cX1_noRow 22 = .ok (.lconst 1, 1) := dk_10 (dk_at dksX1_noRow_0 22 rfl rfl)
theorem dX1_noRow_23 : decode cX1_noRow 23 = .ok (.ldc2_w 214, 3) := dk_20 0 214 (dk_at dksX1_noRow_1 0 rfl rfl)
theorem dX1_noRow_26 : decode cX1_noRow 26 = .ok (.invokestatic 59, 3) := dk_184 0 59 (dk_at dksX1_noRow_1 3 rfl rfl)
theorem dX1_noRow_29 : decode cX1_noRow 29 = .ok (.ifCond .ne 9, 3) := dk_154 0 9 (dk_at dksX1_noRow_1 6 rfl rfl)
theorem dX1_noRow_32 : decode cX1_noRow 32 = .ok (.aload_n 0, 1) := dk_42 (dk_at dksX1_noRow_1 9 rfl rfl)
theorem dX1_noRow_33 : decode cX1_noRow 33 = .ok (.iconst 5, 1) := dk_8 (dk_at dksX1_noRow_1 10 rfl rfl)
theorem dX1_noRow_34 : decode cX1_noRow 34 = .ok (.invokevirtual 69, 3) := dk_182 0 69 (dk_at dksX1_noRow_1 11 rfl rfl)
theorem dX1_noRow_37 : decode cX1_noRow 37 = .ok (.ireturn, 1) := dk_172 (dk_at dksX1_noRow_1 14 rfl rfl)
theorem dX1_noRow_38 : decode cX1_noRow 38 = .ok (.iconst 1, 1) := dk_4 (dk_at dksX1_noRow_1 15 rfl rfl)
theorem dX1_noRow_39 : decode cX1_noRow 39 = .ok (.istore_n 2, 1) := dk_61 (dk_at dksX1_noRow_1 16 rfl rfl)
theorem dX1_noRow_40 : decode cX1_noRow 40 = .ok (.iconst 0, 1) := dk_3 (dk_at dksX1_noRow_1 17 rfl rfl)
theorem dX1_noRow_41 : decode cX1_noRow 41 = .ok (.istore_n 3, 1) := dk_62 (dk_at dksX1_noRow_1 18 rfl rfl)
theorem dX1_noRow_42 : decode cX1_noRow 42 = .ok (.iload_n 3, 1) := dk_29 (dk_at dksX1_noRow_1 19 rfl rfl)
theorem dX1_noRow_43 : decode cX1_noRow 43 = .ok (.aload_n 0, 1) := dk_42 (dk_at dksX1_noRow_1 20 rfl rfl)
theorem dX1_noRow_44 : decode cX1_noRow 44 = .ok (.getfield 16, 3) := dk_180 0 16 (dk_at dksX1_noRow_1 21 rfl rfl)
theorem dX1_noRow_47 : decode cX1_noRow 47 = .ok (.iload_n 1, 1) := dk_27 (dk_at dksX1_noRow_2 0 rfl rfl)
theorem dX1_noRow_48 : decode cX1_noRow 48 = .ok (.iaload, 1) := dk_46 (dk_at dksX1_noRow_2 1 rfl rfl)
theorem dX1_noRow_49 : decode cX1_noRow 49 = .ok (.if_icmp .ge 37, 3) := dk_162 0 37 (dk_at dksX1_noRow_2 2 rfl rfl)
theorem dX1_noRow_52 : decode cX1_noRow 52 = .ok (.iload_n 2, 1) := dk_28 (dk_at dksX1_noRow_2 5 rfl rfl)
theorem dX1_noRow_53 : decode cX1_noRow 53 = .ok (.ifCond .eq 25, 3) := dk_153 0 25 (dk_at dksX1_noRow_2 6 rfl rfl)
theorem dX1_noRow_56 : decode cX1_noRow 56 = .ok (.aload_n 0, 1) := dk_42 (dk_at dksX1_noRow_2 9 rfl rfl)
theorem dX1_noRow_57 : decode cX1_noRow 57 = .ok (.aload_n 0, 1) := dk_42 (dk_at dksX1_noRow_2 10 rfl rfl)
theorem dX1_noRow_58 : decode cX1_noRow 58 = .ok (.getfield 19, 3) := dk_180 0 19 (dk_at dksX1_noRow_2 11 rfl rfl)
theorem dX1_noRow_61 : decode cX1_noRow 61 = .ok (.bipush 40, 2) := dk_16 40 (dk_at dksX1_noRow_2 14 rfl rfl)
theorem dX1_noRow_63 : decode cX1_noRow 63 = .ok (.iload_n 1, 1) := dk_27 (dk_at dksX1_noRow_2 16 rfl rfl)
theorem dX1_noRow_64 : decode cX1_noRow 64 = .ok (.imul, 1) := dk_104 (dk_at dksX1_noRow_2 17 rfl rfl)
theorem dX1_noRow_65 : decode cX1_noRow 65 = .ok (.iload_n 3, 1) := dk_29 (dk_at dksX1_noRow_2 18 rfl rfl)
theorem dX1_noRow_66 : decode cX1_noRow 66 = .ok (.iadd, 1) := dk_96 (dk_at dksX1_noRow_2 19 rfl rfl)
theorem dX1_noRow_67 : decode cX1_noRow 67 = .ok (.iaload, 1) := dk_46 (dk_at dksX1_noRow_2 20 rfl rfl)
theorem dX1_noRow_68 : decode cX1_noRow 68 = .ok (.invokevirtual 162, 3) := dk_182 0 162 (dk_at dksX1_noRow_2 21 rfl rfl)
theorem dX1_noRow_71 : decode cX1_noRow 71 = .ok (.ifCond .eq 7, 3) := dk_153 0 7 (dk_at dksX1_noRow_3 0 rfl rfl)
theorem dX1_noRow_74 : decode cX1_noRow 74 = .ok (.iconst 1, 1) := dk_4 (dk_at dksX1_noRow_3 3 rfl rfl)
theorem dX1_noRow_75 : decode cX1_noRow 75 = .ok (.goto 4, 3) := dk_167 0 4 (dk_at dksX1_noRow_3 4 rfl rfl)
theorem dX1_noRow_78 : decode cX1_noRow 78 = .ok (.iconst 0, 1) := dk_3 (dk_at dksX1_noRow_3 7 rfl rfl)
theorem dX1_noRow_79 : decode cX1_noRow 79 = .ok (.istore_n 2, 1) := dk_61 (dk_at dksX1_noRow_3 8 rfl rfl)
theorem dX1_noRow_80 : decode cX1_noRow 80 = .ok (.iinc 3 1, 3) := dk_132 3 1 (dk_at dksX1_noRow_3 9 rfl rfl)
theorem dX1_noRow_83 : decode cX1_noRow 83 = .ok (.goto (-41), 3) := dk_167 255 215 (dk_at dksX1_noRow_3 12 rfl rfl)
theorem dX1_noRow_86 : decode cX1_noRow 86 = .ok (.iload_n 2, 1) := dk_28 (dk_at dksX1_noRow_3 15 rfl rfl)
theorem dX1_noRow_87 : decode cX1_noRow 87 = .ok (.ifCond .eq 7, 3) := dk_153 0 7 (dk_at dksX1_noRow_3 16 rfl rfl)
theorem dX1_noRow_90 : decode cX1_noRow 90 = .ok (.iconst 0, 1) := dk_3 (dk_at dksX1_noRow_3 19 rfl rfl)
theorem dX1_noRow_91 : decode cX1_noRow 91 = .ok (.goto 8, 3) := dk_167 0 8 (dk_at dksX1_noRow_3 20 rfl rfl)
theorem dX1_noRow_94 : decode cX1_noRow 94 = .ok (.aload_n 0, 1) := dk_42 (dk_at dksX1_noRow_3 23 rfl rfl)
theorem dX1_noRow_95 : decode cX1_noRow 95 = .ok (.iconst 3, 1) := dk_6 (dk_at dksX1_noRow_4 0 rfl rfl)
theorem dX1_noRow_96 : decode cX1_noRow 96 = .ok (.invokevirtual 69, 3) := dk_182 0 69 (dk_at dksX1_noRow_4 1 rfl rfl)
theorem dX1_noRow_99 : decode cX1_noRow 99 = .ok (.ireturn, 1) := dk_172 (dk_at dksX1_noRow_4 4 rfl rfl)
abbrev cX1_daringsBy : ByteArray := prog_10_method_65_code
def yX1_daringsBy : MethodName := ⟨RX1, "daringsBy", "(II)I"⟩
def dkwX1_daringsBy_2 : List UInt8 := [132, 4, 1, 167, 255, 211, 29, 172]
abbrev dktX1_daringsBy_2 : List UInt8 := dkwX1_daringsBy_2 ++ []
def dkwX1_daringsBy_1 : List UInt8 := [96, 21, 4, 79, 29, 42, 28, 182, 0, 216, 153, 0, 10, 4, 21, 4, 120, 167, 0, 4, 3, 128, 62]
abbrev dktX1_daringsBy_1 : List UInt8 := dkwX1_daringsBy_1 ++ dktX1_daringsBy_2
def dkwX1_daringsBy_0 : List UInt8 := [3, 62, 3, 54, 4, 21, 4, 16, 21, 162, 0, 44, 42, 182, 0, 196, 42, 180, 0, 7, 17, 12, 221, 27]
abbrev dktX1_daringsBy_0 : List UInt8 := dkwX1_daringsBy_0 ++ dktX1_daringsBy_1
theorem dksX1_daringsBy_0 : cX1_daringsBy.data.toList.drop 0 = dktX1_daringsBy_0 := by decide +kernel
theorem dksX1_daringsBy_1 : cX1_daringsBy.data.toList.drop 24 = dktX1_daringsBy_1 := dk_seg dksX1_daringsBy_0 24 rfl rfl
theorem dksX1_daringsBy_2 : cX1_daringsBy.data.toList.drop 47 = dktX1_daringsBy_2 := dk_seg dksX1_daringsBy_1 23 rfl rfl
theorem dX1_daringsBy_0 : decode cX1_daringsBy 0 = .ok (.iconst 0, 1) := dk_3 (dk_at dksX1_daringsBy_0 0 rfl rfl)
theorem dX1_daringsBy_1 : decode cX1_daringsBy 1 = .ok (.istore_n 3, 1) := dk_62 (dk_at dksX1_daringsBy_0 1 rfl rfl)
theorem dX1_daringsBy_2 : decode cX1_daringsBy 2 = .ok (.iconst 0, 1) := dk_3 (dk_at dksX1_daringsBy_0 2 rfl rfl)
theorem dX1_daringsBy_3 : decode cX1_daringsBy 3 = .ok (.istore 4, 2) := dk_54 4 (dk_at dksX1_daringsBy_0 3 rfl rfl)
theorem dX1_daringsBy_5 : decode cX1_daringsBy 5 = .ok (.iload 4, 2) := dk_21 4 (dk_at dksX1_daringsBy_0 5 rfl rfl)
theorem dX1_daringsBy_7 : decode cX1_daringsBy 7 = .ok (.bipush 21, 2) := dk_16 21 (dk_at dksX1_daringsBy_0 7 rfl rfl)
theorem dX1_daringsBy_9 : decode cX1_daringsBy 9 = .ok (.if_icmp .ge 44, 3) := dk_162 0 44 (dk_at dksX1_daringsBy_0 9 rfl rfl)
theorem dX1_daringsBy_12 : decode cX1_daringsBy 12 = .ok (.aload_n 0, 1) := dk_42 (dk_at dksX1_daringsBy_0 12 rfl rfl)
theorem dX1_daringsBy_13 : decode cX1_daringsBy 13 = .ok (.invokevirtual 196, 3) := dk_182 0 196 (dk_at dksX1_daringsBy_0 13 rfl rfl)
theorem dX1_daringsBy_16 : decode cX1_daringsBy 16 = .ok (.aload_n 0, 1) := dk_42 (dk_at dksX1_daringsBy_0 16 rfl rfl)
theorem dX1_daringsBy_17 : decode cX1_daringsBy 17 = .ok (.getfield 7, 3) := dk_180 0 7 (dk_at dksX1_daringsBy_0 17 rfl rfl)
theorem dX1_daringsBy_20 : decode cX1_daringsBy 20 = .ok (.sipush 3293, 3) := dk_17 12 221 (dk_at dksX1_daringsBy_0 20 rfl rfl)
theorem dX1_daringsBy_23 : decode cX1_daringsBy 23 = .ok (.iload_n 1, 1) := dk_27 (dk_at dksX1_daringsBy_0 23 rfl rfl)
theorem dX1_daringsBy_24 : decode cX1_daringsBy 24 = .ok (.iadd, 1) := dk_96 (dk_at dksX1_daringsBy_1 0 rfl rfl)
theorem dX1_daringsBy_25 : decode cX1_daringsBy 25 = .ok (.iload 4, 2) := dk_21 4 (dk_at dksX1_daringsBy_1 1 rfl rfl)
theorem dX1_daringsBy_27 : decode cX1_daringsBy 27 = .ok (.iastore, 1) := dk_79 (dk_at dksX1_daringsBy_1 3 rfl rfl)
theorem dX1_daringsBy_28 : decode cX1_daringsBy 28 = .ok (.iload_n 3, 1) := dk_29 (dk_at dksX1_daringsBy_1 4 rfl rfl)
theorem dX1_daringsBy_29 : decode cX1_daringsBy 29 = .ok (.aload_n 0, 1) := dk_42 (dk_at dksX1_daringsBy_1 5 rfl rfl)
theorem dX1_daringsBy_30 : decode cX1_daringsBy 30 = .ok (.iload_n 2, 1) := dk_28 (dk_at dksX1_daringsBy_1 6 rfl rfl)
theorem dX1_daringsBy_31 : decode cX1_daringsBy 31 = .ok (.invokevirtual 216, 3) := dk_182 0 216 (dk_at dksX1_daringsBy_1 7 rfl rfl)
theorem dX1_daringsBy_34 : decode cX1_daringsBy 34 = .ok (.ifCond .eq 10, 3) := dk_153 0 10 (dk_at dksX1_daringsBy_1 10 rfl rfl)
theorem dX1_daringsBy_37 : decode cX1_daringsBy 37 = .ok (.iconst 1, 1) := dk_4 (dk_at dksX1_daringsBy_1 13 rfl rfl)
theorem dX1_daringsBy_38 : decode cX1_daringsBy 38 = .ok (.iload 4, 2) := dk_21 4 (dk_at dksX1_daringsBy_1 14 rfl rfl)
theorem dX1_daringsBy_40 : decode cX1_daringsBy 40 = .ok (.ishl, 1) := dk_120 (dk_at dksX1_daringsBy_1 16 rfl rfl)
theorem dX1_daringsBy_41 : decode cX1_daringsBy 41 = .ok (.goto 4, 3) := dk_167 0 4 (dk_at dksX1_daringsBy_1 17 rfl rfl)
theorem dX1_daringsBy_44 : decode cX1_daringsBy 44 = .ok (.iconst 0, 1) := dk_3 (dk_at dksX1_daringsBy_1 20 rfl rfl)
theorem dX1_daringsBy_45 : decode cX1_daringsBy 45 = .ok (.ior, 1) := dk_128 (dk_at dksX1_daringsBy_1 21 rfl rfl)
theorem dX1_daringsBy_46 : decode cX1_daringsBy 46 = .ok (.istore_n 3, 1) := dk_62 (dk_at dksX1_daringsBy_1 22 rfl rfl)
theorem dX1_daringsBy_47 : decode cX1_daringsBy 47 = .ok (.iinc 4 1, 3) := dk_132 4 1 (dk_at dksX1_daringsBy_2 0 rfl rfl)
theorem dX1_daringsBy_50 : decode cX1_daringsBy 50 = .ok (.goto (-45), 3) := dk_167 255 211 (dk_at dksX1_daringsBy_2 3 rfl rfl)
theorem dX1_daringsBy_53 : decode cX1_daringsBy 53 = .ok (.iload_n 3, 1) := dk_29 (dk_at dksX1_daringsBy_2 6 rfl rfl)
theorem dX1_daringsBy_54 : decode cX1_daringsBy 54 = .ok (.ireturn, 1) := dk_172 (dk_at dksX1_daringsBy_2 7 rfl rfl)
abbrev cX1_isSo : ByteArray := prog_10_method_64_code
def yX1_isSo : MethodName := ⟨RX1, "isSo", "(I)Z"⟩
def dkwX1_isSo_2 : List UInt8 := [132, 3, 1, 167, 255, 212, 28, 172]
abbrev dktX1_isSo_2 : List UInt8 := dkwX1_isSo_2 ++ []
def dkwX1_isSo_1 : List UInt8 := [182, 0, 177, 42, 180, 0, 19, 16, 40, 27, 104, 29, 96, 46, 160, 0, 7, 4, 167, 0, 4, 3, 61]
abbrev dktX1_isSo_1 : List UInt8 := dkwX1_isSo_1 ++ dktX1_isSo_2
def dkwX1_isSo_0 : List UInt8 := [4, 61, 3, 62, 29, 42, 180, 0, 16, 27, 46, 162, 0, 40, 28, 153, 0, 28, 42, 17, 12, 212]
abbrev dktX1_isSo_0 : List UInt8 := dkwX1_isSo_0 ++ dktX1_isSo_1
theorem dksX1_isSo_0 : cX1_isSo.data.toList.drop 0 = dktX1_isSo_0 := by decide +kernel
theorem dksX1_isSo_1 : cX1_isSo.data.toList.drop 22 = dktX1_isSo_1 := dk_seg dksX1_isSo_0 22 rfl rfl
theorem dksX1_isSo_2 : cX1_isSo.data.toList.drop 45 = dktX1_isSo_2 := dk_seg dksX1_isSo_1 23 rfl rfl
theorem dX1_isSo_0 : decode cX1_isSo 0 = .ok (.iconst 1, 1) := dk_4 (dk_at dksX1_isSo_0 0 rfl rfl)
theorem dX1_isSo_1 : decode cX1_isSo 1 = .ok (.istore_n 2, 1) := dk_61 (dk_at dksX1_isSo_0 1 rfl rfl)
theorem dX1_isSo_2 : decode cX1_isSo 2 = .ok (.iconst 0, 1) := dk_3 (dk_at dksX1_isSo_0 2 rfl rfl)
theorem dX1_isSo_3 : decode cX1_isSo 3 = .ok (.istore_n 3, 1) := dk_62 (dk_at dksX1_isSo_0 3 rfl rfl)
theorem dX1_isSo_4 : decode cX1_isSo 4 = .ok (.iload_n 3, 1) := dk_29 (dk_at dksX1_isSo_0 4 rfl rfl)
theorem dX1_isSo_5 : decode cX1_isSo 5 = .ok (.aload_n 0, 1) := dk_42 (dk_at dksX1_isSo_0 5 rfl rfl)
theorem dX1_isSo_6 : decode cX1_isSo 6 = .ok (.getfield 16, 3) := dk_180 0 16 (dk_at dksX1_isSo_0 6 rfl rfl)
theorem dX1_isSo_9 : decode cX1_isSo 9 = .ok (.iload_n 1, 1) := dk_27 (dk_at dksX1_isSo_0 9 rfl rfl)
theorem dX1_isSo_10 : decode cX1_isSo 10 = .ok (.iaload, 1) := dk_46 (dk_at dksX1_isSo_0 10 rfl rfl)
theorem dX1_isSo_11 : decode cX1_isSo 11 = .ok (.if_icmp .ge 40, 3) := dk_162 0 40 (dk_at dksX1_isSo_0 11 rfl rfl)
theorem dX1_isSo_14 : decode cX1_isSo 14 = .ok (.iload_n 2, 1) := dk_28 (dk_at dksX1_isSo_0 14 rfl rfl)
theorem dX1_isSo_15 : decode cX1_isSo 15 = .ok (.ifCond .eq 28, 3) := dk_153 0 28 (dk_at dksX1_isSo_0 15 rfl rfl)
theorem dX1_isSo_18 : decode cX1_isSo 18 = .ok (.aload_n 0, 1) := dk_42 (dk_at dksX1_isSo_0 18 rfl rfl)
theorem dX1_isSo_19 : decode cX1_isSo 19 = .ok (.sipush 3284, 3) := dk_17 12 212 (dk_at dksX1_isSo_0 19 rfl rfl)
theorem dX1_isSo_22 : decode cX1_isSo 22 = .ok (.invokevirtual 177, 3) := dk_182 0 177 (dk_at dksX1_isSo_1 0 rfl rfl)
theorem dX1_isSo_25 : decode cX1_isSo 25 = .ok (.aload_n 0, 1) := dk_42 (dk_at dksX1_isSo_1 3 rfl rfl)
theorem dX1_isSo_26 : decode cX1_isSo 26 = .ok (.getfield 19, 3) := dk_180 0 19 (dk_at dksX1_isSo_1 4 rfl rfl)
theorem dX1_isSo_29 : decode cX1_isSo 29 = .ok (.bipush 40, 2) := dk_16 40 (dk_at dksX1_isSo_1 7 rfl rfl)
theorem dX1_isSo_31 : decode cX1_isSo 31 = .ok (.iload_n 1, 1) := dk_27 (dk_at dksX1_isSo_1 9 rfl rfl)
theorem dX1_isSo_32 : decode cX1_isSo 32 = .ok (.imul, 1) := dk_104 (dk_at dksX1_isSo_1 10 rfl rfl)
theorem dX1_isSo_33 : decode cX1_isSo 33 = .ok (.iload_n 3, 1) := dk_29 (dk_at dksX1_isSo_1 11 rfl rfl)
theorem dX1_isSo_34 : decode cX1_isSo 34 = .ok (.iadd, 1) := dk_96 (dk_at dksX1_isSo_1 12 rfl rfl)
theorem dX1_isSo_35 : decode cX1_isSo 35 = .ok (.iaload, 1) := dk_46 (dk_at dksX1_isSo_1 13 rfl rfl)
theorem dX1_isSo_36 : decode cX1_isSo 36 = .ok (.if_icmp .ne 7, 3) := dk_160 0 7 (dk_at dksX1_isSo_1 14 rfl rfl)
theorem dX1_isSo_39 : decode cX1_isSo 39 = .ok (.iconst 1, 1) := dk_4 (dk_at dksX1_isSo_1 17 rfl rfl)
theorem dX1_isSo_40 : decode cX1_isSo 40 = .ok (.goto 4, 3) := dk_167 0 4 (dk_at dksX1_isSo_1 18 rfl rfl)
theorem dX1_isSo_43 : decode cX1_isSo 43 = .ok (.iconst 0, 1) := dk_3 (dk_at dksX1_isSo_1 21 rfl rfl)
theorem dX1_isSo_44 : decode cX1_isSo 44 = .ok (.istore_n 2, 1) := dk_61 (dk_at dksX1_isSo_1 22 rfl rfl)
theorem dX1_isSo_45 : decode cX1_isSo 45 = .ok (.iinc 3 1, 3) := dk_132 3 1 (dk_at dksX1_isSo_2 0 rfl rfl)
theorem dX1_isSo_48 : decode cX1_isSo 48 = .ok (.goto (-44), 3) := dk_167 255 212 (dk_at dksX1_isSo_2 3 rfl rfl)
theorem dX1_isSo_51 : decode cX1_isSo 51 = .ok (.iload_n 2, 1) := dk_28 (dk_at dksX1_isSo_2 6 rfl rfl)
theorem dX1_isSo_52 : decode cX1_isSo 52 = .ok (.ireturn, 1) := dk_172 (dk_at dksX1_isSo_2 7 rfl rfl)
abbrev cX1_kinds : ByteArray := prog_10_method_67_code
def yX1_kinds : MethodName := ⟨RX1, "kinds", "(II)I"⟩
def dkwX1_kinds_4 : List UInt8 := [27, 21, 4, 79, 21, 5, 172]
abbrev dktX1_kinds_4 : List UInt8 := dkwX1_kinds_4 ++ []
def dkwX1_kinds_3 : List UInt8 := [153, 0, 10, 4, 21, 6, 120, 167, 0, 4, 3, 128, 54, 5, 132, 6, 1, 167, 255, 213, 42, 180, 0, 13]
abbrev dktX1_kinds_3 : List UInt8 := dkwX1_kinds_3 ++ dktX1_kinds_4
def dkwX1_kinds_2 : List UInt8 := [162, 0, 42, 42, 180, 0, 13, 27, 21, 6, 79, 42, 182, 0, 196, 21, 5, 42, 28, 182, 0, 216]
abbrev dktX1_kinds_2 : List UInt8 := dkwX1_kinds_2 ++ dktX1_kinds_3
def dkwX1_kinds_1 : List UInt8 := [153, 0, 5, 29, 172, 42, 180, 0, 13, 27, 46, 54, 4, 3, 54, 5, 3, 54, 6, 21, 6, 16, 6]
abbrev dktX1_kinds_1 : List UInt8 := dkwX1_kinds_1 ++ dktX1_kinds_2
def dkwX1_kinds_0 : List UInt8 := [42, 27, 182, 0, 162, 153, 0, 10, 28, 184, 0, 65, 154, 0, 5, 2, 172, 42, 28, 182, 0, 219, 62, 29]
abbrev dktX1_kinds_0 : List UInt8 := dkwX1_kinds_0 ++ dktX1_kinds_1
theorem dksX1_kinds_0 : cX1_kinds.data.toList.drop 0 = dktX1_kinds_0 := by decide +kernel
theorem dksX1_kinds_1 : cX1_kinds.data.toList.drop 24 = dktX1_kinds_1 := dk_seg dksX1_kinds_0 24 rfl rfl
theorem dksX1_kinds_2 : cX1_kinds.data.toList.drop 47 = dktX1_kinds_2 := dk_seg dksX1_kinds_1 23 rfl rfl
theorem dksX1_kinds_3 : cX1_kinds.data.toList.drop 69 = dktX1_kinds_3 := dk_seg dksX1_kinds_2 22 rfl rfl
theorem dksX1_kinds_4 : cX1_kinds.data.toList.drop 93 = dktX1_kinds_4 := dk_seg dksX1_kinds_3 24 rfl rfl
theorem dX1_kinds_0 : decode cX1_kinds 0 = .ok (.aload_n 0, 1) := dk_42 (dk_at dksX1_kinds_0 0 rfl rfl)
theorem dX1_kinds_1 : decode cX1_kinds 1 = .ok (.iload_n 1, 1) := dk_27 (dk_at dksX1_kinds_0 1 rfl rfl)
theorem dX1_kinds_2 : decode cX1_kinds 2 = .ok (.invokevirtual 162, 3) := dk_182 0 162 (dk_at dksX1_kinds_0 2 rfl rfl)
theorem dX1_kinds_5 : decode cX1_kinds 5 = .ok (.ifCond .eq 10, 3) := dk_153 0 10 (dk_at dksX1_kinds_0 5 rfl rfl)
theorem dX1_kinds_8 : decode cX1_kinds 8 = .ok (.iload_n 2, 1) := dk_28 (dk_at dksX1_kinds_0 8 rfl rfl)
theorem dX1_kinds_9 : decode cX1_kinds 9 = .ok (.invokestatic 65, 3) := dk_184 0 65 (dk_at dksX1_kinds_0 9 rfl rfl)
theorem dX1_kinds_12 : decode cX1_kinds 12 = .ok (.ifCond .ne 5, 3) := dk_154 0 5 (dk_at dksX1_kinds_0 12 rfl rfl)
theorem dX1_kinds_15 : decode cX1_kinds 15 = .ok (.iconst (-1), 1) := dk_2 (dk_at dksX1_kinds_0 15 rfl rfl)
theorem dX1_kinds_16 : decode cX1_kinds 16 = .ok (.ireturn, 1) := dk_172 (dk_at dksX1_kinds_0 16 rfl rfl)
theorem dX1_kinds_17 : decode cX1_kinds 17 = .ok (.aload_n 0, 1) := dk_42 (dk_at dksX1_kinds_0 17 rfl rfl)
theorem dX1_kinds_18 : decode cX1_kinds 18 = .ok (.iload_n 2, 1) := dk_28 (dk_at dksX1_kinds_0 18 rfl rfl)
theorem dX1_kinds_19 : decode cX1_kinds 19 = .ok (.invokevirtual 219, 3) := dk_182 0 219 (dk_at dksX1_kinds_0 19 rfl rfl)
theorem dX1_kinds_22 : decode cX1_kinds 22 = .ok (.istore_n 3, 1) := dk_62 (dk_at dksX1_kinds_0 22 rfl rfl)
theorem dX1_kinds_23 : decode cX1_kinds 23 = .ok (.iload_n 3, 1) := dk_29 (dk_at dksX1_kinds_0 23 rfl rfl)
theorem dX1_kinds_24 : decode cX1_kinds 24 = .ok (.ifCond .eq 5, 3) := dk_153 0 5 (dk_at dksX1_kinds_1 0 rfl rfl)
theorem dX1_kinds_27 : decode cX1_kinds 27 = .ok (.iload_n 3, 1) := dk_29 (dk_at dksX1_kinds_1 3 rfl rfl)
theorem dX1_kinds_28 : decode cX1_kinds 28 = .ok (.ireturn, 1) := dk_172 (dk_at dksX1_kinds_1 4 rfl rfl)
theorem dX1_kinds_29 : decode cX1_kinds 29 = .ok (.aload_n 0, 1) := dk_42 (dk_at dksX1_kinds_1 5 rfl rfl)
theorem dX1_kinds_30 : decode cX1_kinds 30 = .ok (.getfield 13, 3) := dk_180 0 13 (dk_at dksX1_kinds_1 6 rfl rfl)
theorem dX1_kinds_33 : decode cX1_kinds 33 = .ok (.iload_n 1, 1) := dk_27 (dk_at dksX1_kinds_1 9 rfl rfl)
theorem dX1_kinds_34 : decode cX1_kinds 34 = .ok (.iaload, 1) := dk_46 (dk_at dksX1_kinds_1 10 rfl rfl)
theorem dX1_kinds_35 : decode cX1_kinds 35 = .ok (.istore 4, 2) := dk_54 4 (dk_at dksX1_kinds_1 11 rfl rfl)
theorem dX1_kinds_37 : decode cX1_kinds 37 = .ok (.iconst 0, 1) := dk_3 (dk_at dksX1_kinds_1 13 rfl rfl)
theorem dX1_kinds_38 : decode cX1_kinds 38 = .ok (.istore 5, 2) := dk_54 5 (dk_at dksX1_kinds_1 14 rfl rfl)
theorem dX1_kinds_40 : decode cX1_kinds 40 = .ok (.iconst 0, 1) := dk_3 (dk_at dksX1_kinds_1 16 rfl rfl)
theorem dX1_kinds_41 : decode cX1_kinds 41 = .ok (.istore 6, 2) := dk_54 6 (dk_at dksX1_kinds_1 17 rfl rfl)
theorem dX1_kinds_43 : decode cX1_kinds 43 = .ok (.iload 6, 2) := dk_21 6 (dk_at dksX1_kinds_1 19 rfl rfl)
theorem dX1_kinds_45 : decode cX1_kinds 45 = .ok (.bipush 6, 2) := dk_16 6 (dk_at dksX1_kinds_1 21 rfl rfl)
theorem dX1_kinds_47 : decode cX1_kinds 47 = .ok (.if_icmp .ge 42, 3) := dk_162 0 42 (dk_at dksX1_kinds_2 0 rfl rfl)
theorem dX1_kinds_50 : decode cX1_kinds 50 = .ok (.aload_n 0, 1) := dk_42 (dk_at dksX1_kinds_2 3 rfl rfl)
theorem dX1_kinds_51 : decode cX1_kinds 51 = .ok (.getfield 13, 3) := dk_180 0 13 (dk_at dksX1_kinds_2 4 rfl rfl)
theorem dX1_kinds_54 : decode cX1_kinds 54 = .ok (.iload_n 1, 1) := dk_27 (dk_at dksX1_kinds_2 7 rfl rfl)
theorem dX1_kinds_55 : decode cX1_kinds 55 = .ok (.iload 6, 2) := dk_21 6 (dk_at dksX1_kinds_2 8 rfl rfl)
theorem dX1_kinds_57 : decode cX1_kinds 57 = .ok (.iastore, 1) := dk_79 (dk_at dksX1_kinds_2 10 rfl rfl)
theorem dX1_kinds_58 : decode cX1_kinds 58 = .ok (.aload_n 0, 1) := dk_42 (dk_at dksX1_kinds_2 11 rfl rfl)
theorem dX1_kinds_59 : decode cX1_kinds 59 = .ok (.invokevirtual 196, 3) := dk_182 0 196 (dk_at dksX1_kinds_2 12 rfl rfl)
theorem dX1_kinds_62 : decode cX1_kinds 62 = .ok (.iload 5, 2) := dk_21 5 (dk_at dksX1_kinds_2 15 rfl rfl)
theorem dX1_kinds_64 : decode cX1_kinds 64 = .ok (.aload_n 0, 1) := dk_42 (dk_at dksX1_kinds_2 17 rfl rfl)
theorem dX1_kinds_65 : decode cX1_kinds 65 = .ok (.iload_n 2, 1) := dk_28 (dk_at dksX1_kinds_2 18 rfl rfl)
theorem dX1_kinds_66 : decode cX1_kinds 66 = .ok (.invokevirtual 216, 3) := dk_182 0 216 (dk_at dksX1_kinds_2 19 rfl rfl)
theorem dX1_kinds_69 : decode cX1_kinds 69 = .ok (.ifCond .eq 10, 3) := dk_153 0 10 (dk_at dksX1_kinds_3 0 rfl rfl)
theorem dX1_kinds_72 : decode cX1_kinds 72 = .ok (.iconst 1, 1) := dk_4 (dk_at dksX1_kinds_3 3 rfl rfl)
theorem dX1_kinds_73 : decode cX1_kinds 73 = .ok (.iload 6, 2) := dk_21 6 (dk_at dksX1_kinds_3 4 rfl rfl)
theorem dX1_kinds_75 : decode cX1_kinds 75 = .ok (.ishl, 1) := dk_120 (dk_at dksX1_kinds_3 6 rfl rfl)
theorem dX1_kinds_76 : decode cX1_kinds 76 = .ok (.goto 4, 3) := dk_167 0 4 (dk_at dksX1_kinds_3 7 rfl rfl)
theorem dX1_kinds_79 : decode cX1_kinds 79 = .ok (.iconst 0, 1) := dk_3 (dk_at dksX1_kinds_3 10 rfl rfl)
theorem dX1_kinds_80 : decode cX1_kinds 80 = .ok (.ior, 1) := dk_128 (dk_at dksX1_kinds_3 11 rfl rfl)
theorem dX1_kinds_81 : decode cX1_kinds 81 = .ok (.istore 5, 2) := dk_54 5 (dk_at dksX1_kinds_3 12 rfl rfl)
theorem dX1_kinds_83 : decode cX1_kinds 83 = .ok (.iinc 6 1, 3) := dk_132 6 1 (dk_at dksX1_kinds_3 14 rfl rfl)
theorem dX1_kinds_86 : decode cX1_kinds 86 = .ok (.goto (-43), 3) := dk_167 255 213 (dk_at dksX1_kinds_3 17 rfl rfl)
theorem dX1_kinds_89 : decode cX1_kinds 89 = .ok (.aload_n 0, 1) := dk_42 (dk_at dksX1_kinds_3 20 rfl rfl)
theorem dX1_kinds_90 : decode cX1_kinds 90 = .ok (.getfield 13, 3) := dk_180 0 13 (dk_at dksX1_kinds_3 21 rfl rfl)
theorem dX1_kinds_93 : decode cX1_kinds 93 = .ok (.iload_n 1, 1) := dk_27 (dk_at dksX1_kinds_4 0 rfl rfl)
theorem dX1_kinds_94 : decode cX1_kinds 94 = .ok (.iload 4, 2) := dk_21 4 (dk_at dksX1_kinds_4 1 rfl rfl)
theorem dX1_kinds_96 : decode cX1_kinds 96 = .ok (.iastore, 1) := dk_79 (dk_at dksX1_kinds_4 3 rfl rfl)
theorem dX1_kinds_97 : decode cX1_kinds 97 = .ok (.iload 5, 2) := dk_21 5 (dk_at dksX1_kinds_4 4 rfl rfl)
theorem dX1_kinds_99 : decode cX1_kinds 99 = .ok (.ireturn, 1) := dk_172 (dk_at dksX1_kinds_4 6 rfl rfl)
abbrev cX1_look : ByteArray := prog_10_method_70_code
def yX1_look : MethodName := ⟨RX1, "look", "(II)I"⟩
def dkwX1_look_5 : List UInt8 := [21, 6, 181, 0, 54, 21, 5, 172]
abbrev dktX1_look_5 : List UInt8 := dkwX1_look_5 ++ []
def dkwX1_look_4 : List UInt8 := [21, 8, 21, 6, 162, 0, 8, 21, 8, 167, 0, 5, 21, 6, 54, 6, 132, 7, 1, 167, 255, 206, 42]
abbrev dktX1_look_4 : List UInt8 := dkwX1_look_4 ++ dktX1_look_5
def dkwX1_look_3 : List UInt8 := [21, 7, 182, 0, 228, 54, 8, 21, 8, 21, 6, 162, 0, 8, 21, 7, 167, 0, 5, 21, 5, 54, 5]
abbrev dktX1_look_3 : List UInt8 := dkwX1_look_3 ++ dktX1_look_4
def dkwX1_look_2 : List UInt8 := [21, 4, 182, 0, 225, 16, 247, 54, 5, 18, 210, 54, 6, 4, 54, 7, 21, 7, 16, 21, 162, 0, 49, 42]
abbrev dktX1_look_2 : List UInt8 := dkwX1_look_2 ++ dktX1_look_3
def dkwX1_look_1 : List UInt8 := [153, 0, 5, 29, 172, 42, 27, 28, 182, 0, 222, 54, 4, 21, 4, 154, 0, 6, 16, 247, 172, 42, 27]
abbrev dktX1_look_1 : List UInt8 := dkwX1_look_1 ++ dktX1_look_2
def dkwX1_look_0 : List UInt8 := [42, 27, 182, 0, 162, 153, 0, 10, 28, 184, 0, 65, 154, 0, 5, 2, 172, 42, 28, 182, 0, 219, 62, 29]
abbrev dktX1_look_0 : List UInt8 := dkwX1_look_0 ++ dktX1_look_1
theorem dksX1_look_0 : cX1_look.data.toList.drop 0 = dktX1_look_0 := by decide +kernel
theorem dksX1_look_1 : cX1_look.data.toList.drop 24 = dktX1_look_1 := dk_seg dksX1_look_0 24 rfl rfl
theorem dksX1_look_2 : cX1_look.data.toList.drop 47 = dktX1_look_2 := dk_seg dksX1_look_1 23 rfl rfl
theorem dksX1_look_3 : cX1_look.data.toList.drop 71 = dktX1_look_3 := dk_seg dksX1_look_2 24 rfl rfl
theorem dksX1_look_4 : cX1_look.data.toList.drop 94 = dktX1_look_4 := dk_seg dksX1_look_3 23 rfl rfl
theorem dksX1_look_5 : cX1_look.data.toList.drop 117 = dktX1_look_5 := dk_seg dksX1_look_4 23 rfl rfl
theorem dX1_look_0 : decode cX1_look 0 = .ok (.aload_n 0, 1) := dk_42 (dk_at dksX1_look_0 0 rfl rfl)
theorem dX1_look_1 : decode cX1_look 1 = .ok (.iload_n 1, 1) := dk_27 (dk_at dksX1_look_0 1 rfl rfl)
theorem dX1_look_2 : decode cX1_look 2 = .ok (.invokevirtual 162, 3) := dk_182 0 162 (dk_at dksX1_look_0 2 rfl rfl)
theorem dX1_look_5 : decode cX1_look 5 = .ok (.ifCond .eq 10, 3) := dk_153 0 10 (dk_at dksX1_look_0 5 rfl rfl)
theorem dX1_look_8 : decode cX1_look 8 = .ok (.iload_n 2, 1) := dk_28 (dk_at dksX1_look_0 8 rfl rfl)
theorem dX1_look_9 : decode cX1_look 9 = .ok (.invokestatic 65, 3) := dk_184 0 65 (dk_at dksX1_look_0 9 rfl rfl)
theorem dX1_look_12 : decode cX1_look 12 = .ok (.ifCond .ne 5, 3) := dk_154 0 5 (dk_at dksX1_look_0 12 rfl rfl)
theorem dX1_look_15 : decode cX1_look 15 = .ok (.iconst (-1), 1) := dk_2 (dk_at dksX1_look_0 15 rfl rfl)
theorem dX1_look_16 : decode cX1_look 16 = .ok (.ireturn, 1) := dk_172 (dk_at dksX1_look_0 16 rfl rfl)
theorem dX1_look_17 : decode cX1_look 17 = .ok (.aload_n 0, 1) := dk_42 (dk_at dksX1_look_0 17 rfl rfl)
theorem dX1_look_18 : decode cX1_look 18 = .ok (.iload_n 2, 1) := dk_28 (dk_at dksX1_look_0 18 rfl rfl)
theorem dX1_look_19 : decode cX1_look 19 = .ok (.invokevirtual 219, 3) := dk_182 0 219 (dk_at dksX1_look_0 19 rfl rfl)
theorem dX1_look_22 : decode cX1_look 22 = .ok (.istore_n 3, 1) := dk_62 (dk_at dksX1_look_0 22 rfl rfl)
theorem dX1_look_23 : decode cX1_look 23 = .ok (.iload_n 3, 1) := dk_29 (dk_at dksX1_look_0 23 rfl rfl)
theorem dX1_look_24 : decode cX1_look 24 = .ok (.ifCond .eq 5, 3) := dk_153 0 5 (dk_at dksX1_look_1 0 rfl rfl)
theorem dX1_look_27 : decode cX1_look 27 = .ok (.iload_n 3, 1) := dk_29 (dk_at dksX1_look_1 3 rfl rfl)
theorem dX1_look_28 : decode cX1_look 28 = .ok (.ireturn, 1) := dk_172 (dk_at dksX1_look_1 4 rfl rfl)
theorem dX1_look_29 : decode cX1_look 29 = .ok (.aload_n 0, 1) := dk_42 (dk_at dksX1_look_1 5 rfl rfl)
theorem dX1_look_30 : decode cX1_look 30 = .ok (.iload_n 1, 1) := dk_27 (dk_at dksX1_look_1 6 rfl rfl)
theorem dX1_look_31 : decode cX1_look 31 = .ok (.iload_n 2, 1) := dk_28 (dk_at dksX1_look_1 7 rfl rfl)
theorem dX1_look_32 : decode cX1_look 32 = .ok (.invokevirtual 222, 3) := dk_182 0 222 (dk_at dksX1_look_1 8 rfl rfl)
theorem dX1_look_35 : decode cX1_look 35 = .ok (.istore 4, 2) := dk_54 4 (dk_at dksX1_look_1 11 rfl rfl)
theorem dX1_look_37 : decode cX1_look 37 = .ok (.iload 4, 2) := dk_21 4 (dk_at dksX1_look_1 13 rfl rfl)
theorem dX1_look_39 : decode cX1_look 39 = .ok (.ifCond .ne 6, 3) := dk_154 0 6 (dk_at dksX1_look_1 15 rfl rfl)
theorem dX1_look_42 : decode cX1_look 42 = .ok (.bipush (-9), 2) := dk_16 247 (dk_at dksX1_look_1 18 rfl rfl)
theorem dX1_look_44 : decode cX1_look 44 = .ok (.ireturn, 1) := dk_172 (dk_at dksX1_look_1 20 rfl rfl)
theorem dX1_look_45 : decode cX1_look 45 = .ok (.aload_n 0, 1) := dk_42 (dk_at dksX1_look_1 21 rfl rfl)
theorem dX1_look_46 : decode cX1_look 46 = .ok (.iload_n 1, 1) := dk_27 (dk_at dksX1_look_1 22 rfl rfl)
theorem dX1_look_47 : decode cX1_look 47 = .ok (.iload 4, 2) := dk_21 4 (dk_at dksX1_look_2 0 rfl rfl)
theorem dX1_look_49 : decode cX1_look 49 = .ok (.invokevirtual 225, 3) := dk_182 0 225 (dk_at dksX1_look_2 2 rfl rfl)
theorem dX1_look_52 : decode cX1_look 52 = .ok (.bipush (-9), 2) := dk_16 247 (dk_at dksX1_look_2 5 rfl rfl)
theorem dX1_look_54 : decode cX1_look 54 = .ok (.istore 5, 2) := dk_54 5 (dk_at dksX1_look_2 7 rfl rfl)
theorem dX1_look_56 : decode cX1_look 56 = .ok (.ldc 210, 2) := dk_18 210 (dk_at dksX1_look_2 9 rfl rfl)
theorem dX1_look_58 : decode cX1_look 58 = .ok (.istore 6, 2) := dk_54 6 (dk_at dksX1_look_2 11 rfl rfl)
theorem dX1_look_60 : decode cX1_look 60 = .ok (.iconst 1, 1) := dk_4 (dk_at dksX1_look_2 13 rfl rfl)
theorem dX1_look_61 : decode cX1_look 61 = .ok (.istore 7, 2) := dk_54 7 (dk_at dksX1_look_2 14 rfl rfl)
theorem dX1_look_63 : decode cX1_look 63 = .ok (.iload 7, 2) := dk_21 7 (dk_at dksX1_look_2 16 rfl rfl)
theorem dX1_look_65 : decode cX1_look 65 = .ok (.bipush 21, 2) := dk_16 21 (dk_at dksX1_look_2 18 rfl rfl)
theorem dX1_look_67 : decode cX1_look 67 = .ok (.if_icmp .ge 49, 3) := dk_162 0 49 (dk_at dksX1_look_2 20 rfl rfl)
theorem dX1_look_70 : decode cX1_look 70 = .ok (.aload_n 0, 1) := dk_42 (dk_at dksX1_look_2 23 rfl rfl)
theorem dX1_look_71 : decode cX1_look 71 = .ok (.iload 7, 2) := dk_21 7 (dk_at dksX1_look_3 0 rfl rfl)
theorem dX1_look_73 : decode cX1_look 73 = .ok (.invokevirtual 228, 3) := dk_182 0 228 (dk_at dksX1_look_3 2 rfl rfl)
theorem dX1_look_76 : decode cX1_look 76 = .ok (.istore 8, 2) := dk_54 8 (dk_at dksX1_look_3 5 rfl rfl)
theorem dX1_look_78 : decode cX1_look 78 = .ok (.iload 8, 2) := dk_21 8 (dk_at dksX1_look_3 7 rfl rfl)
theorem dX1_look_80 : decode cX1_look 80 = .ok (.iload 6, 2) := dk_21 6 (dk_at dksX1_look_3 9 rfl rfl)
theorem dX1_look_82 : decode cX1_look 82 = .ok (.if_icmp .ge 8, 3) := dk_162 0 8 (dk_at dksX1_look_3 11 rfl rfl)
theorem dX1_look_85 : decode cX1_look 85 = .ok (.iload 7, 2) := dk_21 7 (dk_at dksX1_look_3 14 rfl rfl)
theorem dX1_look_87 : decode cX1_look 87 = .ok (.goto 5, 3) := dk_167 0 5 (dk_at dksX1_look_3 16 rfl rfl)
theorem dX1_look_90 : decode cX1_look 90 = .ok (.iload 5, 2) := dk_21 5 (dk_at dksX1_look_3 19 rfl rfl)
theorem dX1_look_92 : decode cX1_look 92 = .ok (.istore 5, 2) := dk_54 5 (dk_at dksX1_look_3 21 rfl rfl)
theorem dX1_look_94 : decode cX1_look 94 = .ok (.iload 8, 2) := dk_21 8 (dk_at dksX1_look_4 0 rfl rfl)
theorem dX1_look_96 : decode cX1_look 96 = .ok (.iload 6, 2) := dk_21 6 (dk_at dksX1_look_4 2 rfl rfl)
theorem dX1_look_98 : decode cX1_look 98 = .ok (.if_icmp .ge 8, 3) := dk_162 0 8 (dk_at dksX1_look_4 4 rfl rfl)
theorem dX1_look_101 : decode cX1_look 101 = .ok (.iload 8, 2) := dk_21 8 (dk_at dksX1_look_4 7 rfl rfl)
theorem dX1_look_103 : decode cX1_look 103 = .ok (.goto 5, 3) := dk_167 0 5 (dk_at dksX1_look_4 9 rfl rfl)
theorem dX1_look_106 : decode cX1_look 106 = .ok (.iload 6, 2) := dk_21 6 (dk_at dksX1_look_4 12 rfl rfl)
theorem dX1_look_108 : decode cX1_look 108 = .ok (.istore 6, 2) := dk_54 6 (dk_at dksX1_look_4 14 rfl rfl)
theorem dX1_look_110 : decode cX1_look 110 = .ok (.iinc 7 1, 3) := dk_132 7 1 (dk_at dksX1_look_4 16 rfl rfl)
theorem dX1_look_113 : decode cX1_look 113 = .ok (.goto (-50), 3) := dk_167 255 206 (dk_at dksX1_look_4 19 rfl rfl)
theorem dX1_look_116 : decode cX1_look 116 = .ok (.aload_n 0, 1) := dk_42 (dk_at dksX1_look_4 22 rfl rfl)
theorem dX1_look_117 : decode cX1_look 117 = .ok (.iload 6, 2) := dk_21 6 (dk_at dksX1_look_5 0 rfl rfl)
theorem dX1_look_119 : decode cX1_look 119 = .ok (.putfield 54, 3) := dk_181 0 54 (dk_at dksX1_look_5 2 rfl rfl)
theorem dX1_look_122 : decode cX1_look 122 = .ok (.iload 5, 2) := dk_21 5 (dk_at dksX1_look_5 5 rfl rfl)
theorem dX1_look_124 : decode cX1_look 124 = .ok (.ireturn, 1) := dk_172 (dk_at dksX1_look_5 7 rfl rfl)
abbrev cX1_layParts : ByteArray := prog_10_method_68_code
def yX1_layParts : MethodName := ⟨RX1, "layParts", "(II)V"⟩
def dkwX1_layParts_4 : List UInt8 := [21, 5, 96, 96, 92, 46, 4, 96, 79, 132, 4, 1, 167, 255, 207, 132, 3, 1, 167, 255, 169, 177]
abbrev dktX1_layParts_4 : List UInt8 := dkwX1_layParts_4 ++ []
def dkwX1_layParts_3 : List UInt8 := [54, 5, 42, 180, 0, 44, 16, 7, 21, 4, 104, 21, 5, 16, 247, 160, 0, 7, 3, 167, 0, 7, 4]
abbrev dktX1_layParts_3 : List UInt8 := dkwX1_layParts_3 ++ dktX1_layParts_4
def dkwX1_layParts_2 : List UInt8 := [17, 12, 221, 27, 96, 29, 79, 4, 54, 4, 21, 4, 16, 21, 162, 0, 48, 42, 17, 12, 212, 182, 0, 177]
abbrev dktX1_layParts_2 : List UInt8 := dkwX1_layParts_2 ++ dktX1_layParts_3
def dkwX1_layParts_1 : List UInt8 := [29, 16, 21, 162, 0, 87, 28, 29, 184, 0, 149, 153, 0, 73, 42, 182, 0, 196, 42, 180, 0, 7]
abbrev dktX1_layParts_1 : List UInt8 := dkwX1_layParts_1 ++ dktX1_layParts_2
def dkwX1_layParts_0 : List UInt8 := [3, 62, 29, 17, 0, 147, 162, 0, 16, 42, 180, 0, 44, 29, 3, 79, 132, 3, 1, 167, 255, 239, 3, 62]
abbrev dktX1_layParts_0 : List UInt8 := dkwX1_layParts_0 ++ dktX1_layParts_1
theorem dksX1_layParts_0 : cX1_layParts.data.toList.drop 0 = dktX1_layParts_0 := by decide +kernel
theorem dksX1_layParts_1 : cX1_layParts.data.toList.drop 24 = dktX1_layParts_1 := dk_seg dksX1_layParts_0 24 rfl rfl
theorem dksX1_layParts_2 : cX1_layParts.data.toList.drop 46 = dktX1_layParts_2 := dk_seg dksX1_layParts_1 22 rfl rfl
theorem dksX1_layParts_3 : cX1_layParts.data.toList.drop 70 = dktX1_layParts_3 := dk_seg dksX1_layParts_2 24 rfl rfl
theorem dksX1_layParts_4 : cX1_layParts.data.toList.drop 93 = dktX1_layParts_4 := dk_seg dksX1_layParts_3 23 rfl rfl
theorem dX1_layParts_0 : decode cX1_layParts 0 = .ok (.iconst 0, 1) := dk_3 (dk_at dksX1_layParts_0 0 rfl rfl)
theorem dX1_layParts_1 : decode cX1_layParts 1 = .ok (.istore_n 3, 1) := dk_62 (dk_at dksX1_layParts_0 1 rfl rfl)
theorem dX1_layParts_2 : decode cX1_layParts 2 = .ok (.iload_n 3, 1) := dk_29 (dk_at dksX1_layParts_0 2 rfl rfl)
theorem dX1_layParts_3 : decode cX1_layParts 3 = .ok (.sipush 147, 3) := dk_17 0 147 (dk_at dksX1_layParts_0 3 rfl rfl)
theorem dX1_layParts_6 : decode cX1_layParts 6 = .ok (.if_icmp .ge 16, 3) := dk_162 0 16 (dk_at dksX1_layParts_0 6 rfl rfl)
theorem dX1_layParts_9 : decode cX1_layParts 9 = .ok (.aload_n 0, 1) := dk_42 (dk_at dksX1_layParts_0 9 rfl rfl)
theorem dX1_layParts_10 : decode cX1_layParts 10 = .ok (.getfield 44, 3) := dk_180 0 44 (dk_at dksX1_layParts_0 10 rfl rfl)
theorem dX1_layParts_13 : decode cX1_layParts 13 = .ok (.iload_n 3, 1) := dk_29 (dk_at dksX1_layParts_0 13 rfl rfl)
theorem dX1_layParts_14 : decode cX1_layParts 14 = .ok (.iconst 0, 1) := dk_3 (dk_at dksX1_layParts_0 14 rfl rfl)
theorem dX1_layParts_15 : decode cX1_layParts 15 = .ok (.iastore, 1) := dk_79 (dk_at dksX1_layParts_0 15 rfl rfl)
theorem dX1_layParts_16 : decode cX1_layParts 16 = .ok (.iinc 3 1, 3) := dk_132 3 1 (dk_at dksX1_layParts_0 16 rfl rfl)
theorem dX1_layParts_19 : decode cX1_layParts 19 = .ok (.goto (-17), 3) := dk_167 255 239 (dk_at dksX1_layParts_0 19 rfl rfl)
theorem dX1_layParts_22 : decode cX1_layParts 22 = .ok (.iconst 0, 1) := dk_3 (dk_at dksX1_layParts_0 22 rfl rfl)
theorem dX1_layParts_23 : decode cX1_layParts 23 = .ok (.istore_n 3, 1) := dk_62 (dk_at dksX1_layParts_0 23 rfl rfl)
theorem dX1_layParts_24 : decode cX1_layParts 24 = .ok (.iload_n 3, 1) := dk_29 (dk_at dksX1_layParts_1 0 rfl rfl)
theorem dX1_layParts_25 : decode cX1_layParts 25 = .ok (.bipush 21, 2) := dk_16 21 (dk_at dksX1_layParts_1 1 rfl rfl)
theorem dX1_layParts_27 : decode cX1_layParts 27 = .ok (.if_icmp .ge 87, 3) := dk_162 0 87 (dk_at dksX1_layParts_1 3 rfl rfl)
theorem dX1_layParts_30 : decode cX1_layParts 30 = .ok (.iload_n 2, 1) := dk_28 (dk_at dksX1_layParts_1 6 rfl rfl)
theorem dX1_layParts_31 : decode cX1_layParts 31 = .ok (.iload_n 3, 1) := dk_29 (dk_at dksX1_layParts_1 7 rfl rfl)
theorem dX1_layParts_32 : decode cX1_layParts 32 = .ok (.invokestatic 149, 3) := dk_184 0 149 (dk_at dksX1_layParts_1 8 rfl rfl)
theorem dX1_layParts_35 : decode cX1_layParts 35 = .ok (.ifCond .eq 73, 3) := dk_153 0 73 (dk_at dksX1_layParts_1 11 rfl rfl)
theorem dX1_layParts_38 : decode cX1_layParts 38 = .ok (.aload_n 0, 1) := dk_42 (dk_at dksX1_layParts_1 14 rfl rfl)
theorem dX1_layParts_39 : decode cX1_layParts 39 = .ok (.invokevirtual 196, 3) := dk_182 0 196 (dk_at dksX1_layParts_1 15 rfl rfl)
theorem dX1_layParts_42 : decode cX1_layParts 42 = .ok (.aload_n 0, 1) := dk_42 (dk_at dksX1_layParts_1 18 rfl rfl)
theorem dX1_layParts_43 : decode cX1_layParts 43 = .ok (.getfield 7, 3) := dk_180 0 7 (dk_at dksX1_layParts_1 19 rfl rfl)
theorem dX1_layParts_46 : decode cX1_layParts 46 = .ok (.sipush 3293, 3) := dk_17 12 221 (dk_at dksX1_layParts_2 0 rfl rfl)
theorem dX1_layParts_49 : decode cX1_layParts 49 = .ok (.iload_n 1, 1) := dk_27 (dk_at dksX1_layParts_2 3 rfl rfl)
theorem dX1_layParts_50 : decode cX1_layParts 50 = .ok (.iadd, 1) := dk_96 (dk_at dksX1_layParts_2 4 rfl rfl)
theorem dX1_layParts_51 : decode cX1_layParts 51 = .ok (.iload_n 3, 1) := dk_29 (dk_at dksX1_layParts_2 5 rfl rfl)
theorem dX1_layParts_52 : decode cX1_layParts 52 = .ok (.iastore, 1) := dk_79 (dk_at dksX1_layParts_2 6 rfl rfl)
theorem dX1_layParts_53 : decode cX1_layParts 53 = .ok (.iconst 1, 1) := dk_4 (dk_at dksX1_layParts_2 7 rfl rfl)
theorem dX1_layParts_54 : decode cX1_layParts 54 = .ok (.istore 4, 2) := dk_54 4 (dk_at dksX1_layParts_2 8 rfl rfl)
theorem dX1_layParts_56 : decode cX1_layParts 56 = .ok (.iload 4, 2) := dk_21 4 (dk_at dksX1_layParts_2 10 rfl rfl)
theorem dX1_layParts_58 : decode cX1_layParts 58 = .ok (.bipush 21, 2) := dk_16 21 (dk_at dksX1_layParts_2 12 rfl rfl)
theorem dX1_layParts_60 : decode cX1_layParts 60 = .ok (.if_icmp .ge 48, 3) := dk_162 0 48 (dk_at dksX1_layParts_2 14 rfl rfl)
theorem dX1_layParts_63 : decode cX1_layParts 63 = .ok (.aload_n 0, 1) := dk_42 (dk_at dksX1_layParts_2 17 rfl rfl)
theorem dX1_layParts_64 : decode cX1_layParts 64 = .ok (.sipush 3284, 3) := dk_17 12 212 (dk_at dksX1_layParts_2 18 rfl rfl)
theorem dX1_layParts_67 : decode cX1_layParts 67 = .ok (.invokevirtual 177, 3) := dk_182 0 177 (dk_at dksX1_layParts_2 21 rfl rfl)
theorem dX1_layParts_70 : decode cX1_layParts 70 = .ok (.istore 5, 2) := dk_54 5 (dk_at dksX1_layParts_3 0 rfl rfl)
theorem dX1_layParts_72 : decode cX1_layParts 72 = .ok (.aload_n 0, 1) := dk_42 (dk_at dksX1_layParts_3 2 rfl rfl)
theorem dX1_layParts_73 : decode cX1_layParts 73 = .ok (.getfield 44, 3) := dk_180 0 44 (dk_at dksX1_layParts_3 3 rfl rfl)
theorem dX1_layParts_76 : decode cX1_layParts 76 = .ok (.bipush 7, 2) := dk_16 7 (dk_at dksX1_layParts_3 6 rfl rfl)
theorem dX1_layParts_78 : decode cX1_layParts 78 = .ok (.iload 4, 2) := dk_21 4 (dk_at dksX1_layParts_3 8 rfl rfl)
theorem dX1_layParts_80 : decode cX1_layParts 80 = .ok (.imul, 1) := dk_104 (dk_at dksX1_layParts_3 10 rfl rfl)
theorem dX1_layParts_81 : decode cX1_layParts 81 = .ok (.iload 5, 2) := dk_21 5 (dk_at dksX1_layParts_3 11 rfl rfl)
theorem dX1_layParts_83 : decode cX1_layParts 83 = .ok (.bipush (-9), 2) := dk_16 247 (dk_at dksX1_layParts_3 13 rfl rfl)
theorem dX1_layParts_85 : decode cX1_layParts 85 = .ok (.if_icmp .ne 7, 3) := dk_160 0 7 (dk_at dksX1_layParts_3 15 rfl rfl)
theorem dX1_layParts_88 : decode cX1_layParts 88 = .ok (.iconst 0, 1) := dk_3 (dk_at dksX1_layParts_3 18 rfl rfl)
theorem dX1_layParts_89 : decode cX1_layParts 89 = .ok (.goto 7, 3) := dk_167 0 7 (dk_at dksX1_layParts_3 19 rfl rfl)
theorem dX1_layParts_92 : decode cX1_layParts 92 = .ok (.iconst 1, 1) := dk_4 (dk_at dksX1_layParts_3 22 rfl rfl)
theorem dX1_layParts_93 : decode cX1_layParts 93 = .ok (.iload 5, 2) := dk_21 5 (dk_at dksX1_layParts_4 0 rfl rfl)
theorem dX1_layParts_95 : decode cX1_layParts 95 = .ok (.iadd, 1) := dk_96 (dk_at dksX1_layParts_4 2 rfl rfl)
theorem dX1_layParts_96 : decode cX1_layParts 96 = .ok (.iadd, 1) := dk_96 (dk_at dksX1_layParts_4 3 rfl rfl)
theorem dX1_layParts_97 : decode cX1_layParts 97 = .ok (.dup2, 1) := dk_92 (dk_at dksX1_layParts_4 4 rfl rfl)
theorem dX1_layParts_98 : decode cX1_layParts 98 = .ok (.iaload, 1) := dk_46 (dk_at dksX1_layParts_4 5 rfl rfl)
theorem dX1_layParts_99 : decode cX1_layParts 99 = .ok (.iconst 1, 1) := dk_4 (dk_at dksX1_layParts_4 6 rfl rfl)
theorem dX1_layParts_100 : decode cX1_layParts 100 = .ok (.iadd, 1) := dk_96 (dk_at dksX1_layParts_4 7 rfl rfl)
theorem dX1_layParts_101 : decode cX1_layParts 101 = .ok (.iastore, 1) := dk_79 (dk_at dksX1_layParts_4 8 rfl rfl)
theorem dX1_layParts_102 : decode cX1_layParts 102 = .ok (.iinc 4 1, 3) := dk_132 4 1 (dk_at dksX1_layParts_4 9 rfl rfl)
theorem dX1_layParts_105 : decode cX1_layParts 105 = .ok (.goto (-49), 3) := dk_167 255 207 (dk_at dksX1_layParts_4 12 rfl rfl)
theorem dX1_layParts_108 : decode cX1_layParts 108 = .ok (.iinc 3 1, 3) := dk_132 3 1 (dk_at dksX1_layParts_4 15 rfl rfl)
theorem dX1_layParts_111 : decode cX1_layParts 111 = .ok (.goto (-87), 3) := dk_167 255 169 (dk_at dksX1_layParts_4 18 rfl rfl)
theorem dX1_layParts_114 : decode cX1_layParts 114 = .ok (.return_, 1) := dk_177 (dk_at dksX1_layParts_4 21 rfl rfl)
abbrev cX1_greatestPart : ByteArray := prog_10_method_69_code
def yX1_greatestPart : MethodName := ⟨RX1, "greatestPart", "(I)I"⟩
def dkwX1_greatestPart_1 : List UInt8 := [28, 164, 0, 12, 42, 180, 0, 44, 29, 46, 167, 0, 4, 28, 61, 132, 3, 1, 167, 255, 221, 28, 172]
abbrev dktX1_greatestPart_1 : List UInt8 := dkwX1_greatestPart_1 ++ []
def dkwX1_greatestPart_0 : List UInt8 := [3, 61, 16, 7, 27, 104, 62, 29, 16, 7, 27, 104, 16, 7, 96, 162, 0, 30, 42, 180, 0, 44, 29, 46]
abbrev dktX1_greatestPart_0 : List UInt8 := dkwX1_greatestPart_0 ++ dktX1_greatestPart_1
theorem dksX1_greatestPart_0 : cX1_greatestPart.data.toList.drop 0 = dktX1_greatestPart_0 := by decide +kernel
theorem dksX1_greatestPart_1 : cX1_greatestPart.data.toList.drop 24 = dktX1_greatestPart_1 := dk_seg dksX1_greatestPart_0 24 rfl rfl
theorem dX1_greatestPart_0 : decode cX1_greatestPart 0 = .ok (.iconst 0, 1) := dk_3 (dk_at dksX1_greatestPart_0 0 rfl rfl)
theorem dX1_greatestPart_1 : decode cX1_greatestPart 1 = .ok (.istore_n 2, 1) := dk_61 (dk_at dksX1_greatestPart_0 1 rfl rfl)
theorem dX1_greatestPart_2 : decode cX1_greatestPart 2 = .ok (.bipush 7, 2) := dk_16 7 (dk_at dksX1_greatestPart_0 2 rfl rfl)
theorem dX1_greatestPart_4 : decode cX1_greatestPart 4 = .ok (.iload_n 1, 1) := dk_27 (dk_at dksX1_greatestPart_0 4 rfl rfl)
theorem dX1_greatestPart_5 : decode cX1_greatestPart 5 = .ok (.imul, 1) := dk_104 (dk_at dksX1_greatestPart_0 5 rfl rfl)
theorem dX1_greatestPart_6 : decode cX1_greatestPart 6 = .ok (.istore_n 3, 1) := dk_62 (dk_at dksX1_greatestPart_0 6 rfl rfl)
theorem dX1_greatestPart_7 : decode cX1_greatestPart 7 = .ok (.iload_n 3, 1) := dk_29 (dk_at dksX1_greatestPart_0 7 rfl rfl)
theorem dX1_greatestPart_8 : decode cX1_greatestPart 8 = .ok (.bipush 7, 2) := dk_16 7 (dk_at dksX1_greatestPart_0 8 rfl rfl)
theorem dX1_greatestPart_10 : decode cX1_greatestPart 10 = .ok (.iload_n 1, 1) := dk_27 (dk_at dksX1_greatestPart_0 10 rfl rfl)
theorem dX1_greatestPart_11 : decode cX1_greatestPart 11 = .ok (.imul, 1) := dk_104 (dk_at dksX1_greatestPart_0 11 rfl rfl)
theorem dX1_greatestPart_12 : decode cX1_greatestPart 12 = .ok (.bipush 7, 2) := dk_16 7 (dk_at dksX1_greatestPart_0 12 rfl rfl)
theorem dX1_greatestPart_14 : decode cX1_greatestPart 14 = .ok (.iadd, 1) := dk_96 (dk_at dksX1_greatestPart_0 14 rfl rfl)
theorem dX1_greatestPart_15 : decode cX1_greatestPart 15 = .ok (.if_icmp .ge 30, 3) := dk_162 0 30 (dk_at dksX1_greatestPart_0 15 rfl rfl)
theorem dX1_greatestPart_18 : decode cX1_greatestPart 18 = .ok (.aload_n 0, 1) := dk_42 (dk_at dksX1_greatestPart_0 18 rfl rfl)
theorem dX1_greatestPart_19 : decode cX1_greatestPart 19 = .ok (.getfield 44, 3) := dk_180 0 44 (dk_at dksX1_greatestPart_0 19 rfl rfl)
theorem dX1_greatestPart_22 : decode cX1_greatestPart 22 = .ok (.iload_n 3, 1) := dk_29 (dk_at dksX1_greatestPart_0 22 rfl rfl)
theorem dX1_greatestPart_23 : decode cX1_greatestPart 23 = .ok (.iaload, 1) := dk_46 (dk_at dksX1_greatestPart_0 23 rfl rfl)
theorem dX1_greatestPart_24 : decode cX1_greatestPart 24 = .ok (.iload_n 2, 1) := dk_28 (dk_at dksX1_greatestPart_1 0 rfl rfl)
theorem dX1_greatestPart_25 : decode cX1_greatestPart 25 = .ok (.if_icmp .le 12, 3) := dk_164 0 12 (dk_at dksX1_greatestPart_1 1 rfl rfl)
theorem dX1_greatestPart_28 : decode cX1_greatestPart 28 = .ok (.aload_n 0, 1) := dk_42 (dk_at dksX1_greatestPart_1 4 rfl rfl)
theorem dX1_greatestPart_29 : decode cX1_greatestPart 29 = .ok (.getfield 44, 3) := dk_180 0 44 (dk_at dksX1_greatestPart_1 5 rfl rfl)
theorem dX1_greatestPart_32 : decode cX1_greatestPart 32 = .ok (.iload_n 3, 1) := dk_29 (dk_at dksX1_greatestPart_1 8 rfl rfl)
theorem dX1_greatestPart_33 : decode cX1_greatestPart 33 = .ok (.iaload, 1) := dk_46 (dk_at dksX1_greatestPart_1 9 rfl rfl)
theorem dX1_greatestPart_34 : decode cX1_greatestPart 34 = .ok (.goto 4, 3) := dk_167 0 4 (dk_at dksX1_greatestPart_1 10 rfl rfl)
theorem dX1_greatestPart_37 : decode cX1_greatestPart 37 = .ok (.iload_n 2, 1) := dk_28 (dk_at dksX1_greatestPart_1 13 rfl rfl)
theorem dX1_greatestPart_38 : decode cX1_greatestPart 38 = .ok (.istore_n 2, 1) := dk_61 (dk_at dksX1_greatestPart_1 14 rfl rfl)
theorem dX1_greatestPart_39 : decode cX1_greatestPart 39 = .ok (.iinc 3 1, 3) := dk_132 3 1 (dk_at dksX1_greatestPart_1 15 rfl rfl)
theorem dX1_greatestPart_42 : decode cX1_greatestPart 42 = .ok (.goto (-35), 3) := dk_167 255 221 (dk_at dksX1_greatestPart_1 18 rfl rfl)
theorem dX1_greatestPart_45 : decode cX1_greatestPart 45 = .ok (.iload_n 2, 1) := dk_28 (dk_at dksX1_greatestPart_1 21 rfl rfl)
theorem dX1_greatestPart_46 : decode cX1_greatestPart 46 = .ok (.ireturn, 1) := dk_172 (dk_at dksX1_greatestPart_1 22 rfl rfl)
abbrev cX1_sets : ByteArray := prog_10_method_73_code
def yX1_sets : MethodName := ⟨RX1, "sets", "(I)I"⟩
def dkwX1_sets_4 : List UInt8 := [181, 0, 239, 42, 10, 181, 0, 28, 4, 172]
abbrev dktX1_sets_4 : List UInt8 := dkwX1_sets_4 ++ []
def dkwX1_sets_3 : List UInt8 := [153, 0, 8, 21, 4, 167, 0, 7, 42, 180, 0, 54, 181, 0, 54, 132, 4, 255, 167, 255, 200, 42, 29, 133]
abbrev dktX1_sets_3 : List UInt8 := dkwX1_sets_3 ++ dktX1_sets_4
def dkwX1_sets_2 : List UInt8 := [167, 0, 4, 3, 54, 5, 29, 21, 5, 153, 0, 7, 4, 167, 0, 4, 3, 96, 62, 42, 21, 5]
abbrev dktX1_sets_2 : List UInt8 := dkwX1_sets_2 ++ dktX1_sets_3
def dkwX1_sets_1 : List UInt8 := [180, 0, 136, 120, 4, 100, 54, 4, 21, 4, 155, 0, 57, 42, 21, 4, 182, 0, 236, 27, 160, 0, 7, 4]
abbrev dktX1_sets_1 : List UInt8 := dkwX1_sets_1 ++ dktX1_sets_2
def dkwX1_sets_0 : List UInt8 := [42, 27, 182, 0, 233, 61, 28, 153, 0, 5, 28, 172, 3, 62, 42, 16, 247, 181, 0, 54, 4, 42]
abbrev dktX1_sets_0 : List UInt8 := dkwX1_sets_0 ++ dktX1_sets_1
theorem dksX1_sets_0 : cX1_sets.data.toList.drop 0 = dktX1_sets_0 := by decide +kernel
theorem dksX1_sets_1 : cX1_sets.data.toList.drop 22 = dktX1_sets_1 := dk_seg dksX1_sets_0 22 rfl rfl
theorem dksX1_sets_2 : cX1_sets.data.toList.drop 46 = dktX1_sets_2 := dk_seg dksX1_sets_1 24 rfl rfl
theorem dksX1_sets_3 : cX1_sets.data.toList.drop 68 = dktX1_sets_3 := dk_seg dksX1_sets_2 22 rfl rfl
theorem dksX1_sets_4 : cX1_sets.data.toList.drop 92 = dktX1_sets_4 := dk_seg dksX1_sets_3 24 rfl rfl
theorem dX1_sets_0 : decode cX1_sets 0 = .ok (.aload_n 0, 1) := dk_42 (dk_at dksX1_sets_0 0 rfl rfl)
theorem dX1_sets_1 : decode cX1_sets 1 = .ok (.iload_n 1, 1) := dk_27 (dk_at dksX1_sets_0 1 rfl rfl)
theorem dX1_sets_2 : decode cX1_sets 2 = .ok (.invokevirtual 233, 3) := dk_182 0 233 (dk_at dksX1_sets_0 2 rfl rfl)
theorem dX1_sets_5 : decode cX1_sets 5 = .ok (.istore_n 2, 1) := dk_61 (dk_at dksX1_sets_0 5 rfl rfl)
theorem dX1_sets_6 : decode cX1_sets 6 = .ok (.iload_n 2, 1) := dk_28 (dk_at dksX1_sets_0 6 rfl rfl)
theorem dX1_sets_7 : decode cX1_sets 7 = .ok (.ifCond .eq 5, 3) := dk_153 0 5 (dk_at dksX1_sets_0 7 rfl rfl)
theorem dX1_sets_10 : decode cX1_sets 10 = .ok (.iload_n 2, 1) := dk_28 (dk_at dksX1_sets_0 10 rfl rfl)
theorem dX1_sets_11 : decode cX1_sets 11 = .ok (.ireturn, 1) := dk_172 (dk_at dksX1_sets_0 11 rfl rfl)
theorem dX1_sets_12 : decode cX1_sets 12 = .ok (.iconst 0, 1) := dk_3 (dk_at dksX1_sets_0 12 rfl rfl)
theorem dX1_sets_13 : decode cX1_sets 13 = .ok (.istore_n 3, 1) := dk_62 (dk_at dksX1_sets_0 13 rfl rfl)
theorem dX1_sets_14 : decode cX1_sets 14 = .ok (.aload_n 0, 1) := dk_42 (dk_at dksX1_sets_0 14 rfl rfl)
theorem dX1_sets_15 : decode cX1_sets 15 = .ok (.bipush (-9), 2) := dk_16 247 (dk_at dksX1_sets_0 15 rfl rfl)
theorem dX1_sets_17 : decode cX1_sets 17 = .ok (.putfield 54, 3) := dk_181 0 54 (dk_at dksX1_sets_0 17 rfl rfl)
theorem dX1_sets_20 : decode cX1_sets 20 = .ok (.iconst 1, 1) := dk_4 (dk_at dksX1_sets_0 20 rfl rfl)
theorem dX1_sets_21 : decode cX1_sets 21 = .ok (.aload_n 0, 1) := dk_42 (dk_at dksX1_sets_0 21 rfl rfl)
theorem dX1_sets_22 : decode cX1_sets 22 = .ok (.getfield 136, 3) := dk_180 0 136 (dk_at dksX1_sets_1 0 rfl rfl)
theorem dX1_sets_25 : decode cX1_sets 25 = .ok (.ishl, 1) := dk_120 (dk_at dksX1_sets_1 3 rfl rfl)
theorem dX1_sets_26 : decode cX1_sets 26 = .ok (.iconst 1, 1) := dk_4 (dk_at dksX1_sets_1 4 rfl rfl)
theorem dX1_sets_27 : decode cX1_sets 27 = .ok (.isub, 1) := dk_100 (dk_at dksX1_sets_1 5 rfl rfl)
theorem dX1_sets_28 : decode cX1_sets 28 = .ok (.istore 4, 2) := dk_54 4 (dk_at dksX1_sets_1 6 rfl rfl)
theorem dX1_sets_30 : decode cX1_sets 30 = .ok (.iload 4, 2) := dk_21 4 (dk_at dksX1_sets_1 8 rfl rfl)
theorem dX1_sets_32 : decode cX1_sets 32 = .ok (.ifCond .lt 57, 3) := dk_155 0 57 (dk_at dksX1_sets_1 10 rfl rfl)
theorem dX1_sets_35 : decode cX1_sets 35 = .ok (.aload_n 0, 1) := dk_42 (dk_at dksX1_sets_1 13 rfl rfl)
theorem dX1_sets_36 : decode cX1_sets 36 = .ok (.iload 4, 2) := dk_21 4 (dk_at dksX1_sets_1 14 rfl rfl)
theorem dX1_sets_38 : decode cX1_sets 38 = .ok (.invokevirtual 236, 3) := dk_182 0 236 (dk_at dksX1_sets_1 16 rfl rfl)
theorem dX1_sets_41 : decode cX1_sets 41 = .ok (.iload_n 1, 1) := dk_27 (dk_at dksX1_sets_1 19 rfl rfl)
theorem dX1_sets_42 : decode cX1_sets 42 = .ok (.if_icmp .ne 7, 3) := dk_160 0 7 (dk_at dksX1_sets_1 20 rfl rfl)
theorem dX1_sets_45 : decode cX1_sets 45 = .ok (.iconst 1, 1) := dk_4 (dk_at dksX1_sets_1 23 rfl rfl)
theorem dX1_sets_46 : decode cX1_sets 46 = .ok (.goto 4, 3) := dk_167 0 4 (dk_at dksX1_sets_2 0 rfl rfl)
theorem dX1_sets_49 : decode cX1_sets 49 = .ok (.iconst 0, 1) := dk_3 (dk_at dksX1_sets_2 3 rfl rfl)
theorem dX1_sets_50 : decode cX1_sets 50 = .ok (.istore 5, 2) := dk_54 5 (dk_at dksX1_sets_2 4 rfl rfl)
theorem dX1_sets_52 : decode cX1_sets 52 = .ok (.iload_n 3, 1) := dk_29 (dk_at dksX1_sets_2 6 rfl rfl)
theorem dX1_sets_53 : decode cX1_sets 53 = .ok (.iload 5, 2) := dk_21 5 (dk_at dksX1_sets_2 7 rfl rfl)
theorem dX1_sets_55 : decode cX1_sets 55 = .ok (.ifCond .eq 7, 3) := dk_153 0 7 (dk_at dksX1_sets_2 9 rfl rfl)
theorem dX1_sets_58 : decode cX1_sets 58 = .ok (.iconst 1, 1) := dk_4 (dk_at dksX1_sets_2 12 rfl rfl)
theorem dX1_sets_59 : decode cX1_sets 59 = .ok (.goto 4, 3) := dk_167 0 4 (dk_at dksX1_sets_2 13 rfl rfl)
theorem dX1_sets_62 : decode cX1_sets 62 = .ok (.iconst 0, 1) := dk_3 (dk_at dksX1_sets_2 16 rfl rfl)
theorem dX1_sets_63 : decode cX1_sets 63 = .ok (.iadd, 1) := dk_96 (dk_at dksX1_sets_2 17 rfl rfl)
theorem dX1_sets_64 : decode cX1_sets 64 = .ok (.istore_n 3, 1) := dk_62 (dk_at dksX1_sets_2 18 rfl rfl)
theorem dX1_sets_65 : decode cX1_sets 65 = .ok (.aload_n 0, 1) := dk_42 (dk_at dksX1_sets_2 19 rfl rfl)
theorem dX1_sets_66 : decode cX1_sets 66 = .ok (.iload 5, 2) := dk_21 5 (dk_at dksX1_sets_2 20 rfl rfl)
theorem dX1_sets_68 : decode cX1_sets 68 = .ok (.ifCond .eq 8, 3) := dk_153 0 8 (dk_at dksX1_sets_3 0 rfl rfl)
theorem dX1_sets_71 : decode cX1_sets 71 = .ok (.iload 4, 2) := dk_21 4 (dk_at dksX1_sets_3 3 rfl rfl)
theorem dX1_sets_73 : decode cX1_sets 73 = .ok (.goto 7, 3) := dk_167 0 7 (dk_at dksX1_sets_3 5 rfl rfl)
theorem dX1_sets_76 : decode cX1_sets 76 = .ok (.aload_n 0, 1) := dk_42 (dk_at dksX1_sets_3 8 rfl rfl)
theorem dX1_sets_77 : decode cX1_sets 77 = .ok (.getfield 54, 3) := dk_180 0 54 (dk_at dksX1_sets_3 9 rfl rfl)
theorem dX1_sets_80 : decode cX1_sets 80 = .ok (.putfield 54, 3) := dk_181 0 54 (dk_at dksX1_sets_3 12 rfl rfl)
theorem dX1_sets_83 : decode cX1_sets 83 = .ok (.iinc 4 (-1), 3) := dk_132 4 255 (dk_at dksX1_sets_3 15 rfl rfl)
theorem dX1_sets_86 : decode cX1_sets 86 = .ok (.goto (-56), 3) := dk_167 255 200 (dk_at dksX1_sets_3 18 rfl rfl)
theorem dX1_sets_89 : decode cX1_sets 89 = .ok (.aload_n 0, 1) := dk_42 (dk_at dksX1_sets_3 21 rfl rfl)
theorem dX1_sets_90 : decode cX1_sets 90 = .ok (.iload_n 3, 1) := dk_29 (dk_at dksX1_sets_3 22 rfl rfl)
theorem dX1_sets_91 : decode cX1_sets 91 = .ok (.i2l, 1) := dk_133 (dk_at dksX1_sets_3 23 rfl rfl)
theorem dX1_sets_92 : decode cX1_sets 92 = .ok (.putfield 239, 3) := dk_181 0 239 (dk_at dksX1_sets_4 0 rfl rfl)
theorem dX1_sets_95 : decode cX1_sets 95 = .ok (.aload_n 0, 1) := dk_42 (dk_at dksX1_sets_4 3 rfl rfl)
theorem dX1_sets_96 : decode cX1_sets 96 = .ok (.lconst 1, 1) := dk_10 (dk_at dksX1_sets_4 4 rfl rfl)
theorem dX1_sets_97 : decode cX1_sets 97 = .ok (.putfield 28, 3) := dk_181 0 28 (dk_at dksX1_sets_4 5 rfl rfl)
theorem dX1_sets_100 : decode cX1_sets 100 = .ok (.iconst 1, 1) := dk_4 (dk_at dksX1_sets_4 8 rfl rfl)
theorem dX1_sets_101 : decode cX1_sets 101 = .ok (.ireturn, 1) := dk_172 (dk_at dksX1_sets_4 9 rfl rfl)
abbrev cX1_noSets : ByteArray := prog_10_method_72_code
def yX1_noSets : MethodName := ⟨RX1, "noSets", "(I)I"⟩
def dkwX1_noSets_1 : List UInt8 := [16, 252, 167, 0, 4, 3, 172]
abbrev dktX1_noSets_1 : List UInt8 := dkwX1_noSets_1 ++ []
def dkwX1_noSets_0 : List UInt8 := [27, 133, 9, 20, 0, 231, 184, 0, 59, 154, 0, 7, 2, 167, 0, 16, 42, 180, 0, 136, 154, 0, 8]
abbrev dktX1_noSets_0 : List UInt8 := dkwX1_noSets_0 ++ dktX1_noSets_1
theorem dksX1_noSets_0 : cX1_noSets.data.toList.drop 0 = dktX1_noSets_0 := by decide +kernel
theorem dksX1_noSets_1 : cX1_noSets.data.toList.drop 23 = dktX1_noSets_1 := dk_seg dksX1_noSets_0 23 rfl rfl
theorem dX1_noSets_0 : decode cX1_noSets 0 = .ok (.iload_n 1, 1) := dk_27 (dk_at dksX1_noSets_0 0 rfl rfl)
theorem dX1_noSets_1 : decode cX1_noSets 1 = .ok (.i2l, 1) := dk_133 (dk_at dksX1_noSets_0 1 rfl rfl)
theorem dX1_noSets_2 : decode cX1_noSets 2 = .ok (.lconst 0, 1) := dk_9 (dk_at dksX1_noSets_0 2 rfl rfl)
theorem dX1_noSets_3 : decode cX1_noSets 3 = .ok (.ldc2_w 231, 3) := dk_20 0 231 (dk_at dksX1_noSets_0 3 rfl rfl)
theorem dX1_noSets_6 : decode cX1_noSets 6 = .ok (.invokestatic 59, 3) := dk_184 0 59 (dk_at dksX1_noSets_0 6 rfl rfl)
theorem dX1_noSets_9 : decode cX1_noSets 9 = .ok (.ifCond .ne 7, 3) := dk_154 0 7 (dk_at dksX1_noSets_0 9 rfl rfl)
theorem dX1_noSets_12 : decode cX1_noSets 12 = .ok (.iconst (-1), 1) := dk_2 (dk_at dksX1_noSets_0 12 rfl rfl)
theorem dX1_noSets_13 : decode cX1_noSets 13 = .ok (.goto 16, 3) := dk_167 0 16 (dk_at dksX1_noSets_0 13 rfl rfl)
theorem dX1_noSets_16 : decode cX1_noSets 16 = .ok (.aload_n 0, 1) := dk_42 (dk_at dksX1_noSets_0 16 rfl rfl)
theorem dX1_noSets_17 : decode cX1_noSets 17 = .ok (.getfield 136, 3) := dk_180 0 136 (dk_at dksX1_noSets_0 17 rfl rfl)
theorem dX1_noSets_20 : decode cX1_noSets 20 = .ok (.ifCond .ne 8, 3) := dk_154 0 8 (dk_at dksX1_noSets_0 20 rfl rfl)
theorem dX1_noSets_23 : decode cX1_noSets 23 = .ok (.bipush (-4), 2) := dk_16 252 (dk_at dksX1_noSets_1 0 rfl rfl)
theorem dX1_noSets_25 : decode cX1_noSets 25 = .ok (.goto 4, 3) := dk_167 0 4 (dk_at dksX1_noSets_1 2 rfl rfl)
theorem dX1_noSets_28 : decode cX1_noSets 28 = .ok (.iconst 0, 1) := dk_3 (dk_at dksX1_noSets_1 5 rfl rfl)
theorem dX1_noSets_29 : decode cX1_noSets 29 = .ok (.ireturn, 1) := dk_172 (dk_at dksX1_noSets_1 6 rfl rfl)
abbrev cX1_daringOf : ByteArray := prog_10_method_71_code
def yX1_daringOf : MethodName := ⟨RX1, "daringOf", "(I)I"⟩
def dkwX1_daringOf_1 : List UInt8 := [180, 0, 7, 16, 9, 29, 96, 46, 167, 0, 4, 3, 96, 61, 132, 3, 1, 167, 255, 221, 28, 172]
abbrev dktX1_daringOf_1 : List UInt8 := dkwX1_daringOf_1 ++ []
def dkwX1_daringOf_0 : List UInt8 := [3, 61, 3, 62, 29, 42, 180, 0, 136, 162, 0, 33, 28, 27, 29, 184, 0, 149, 153, 0, 15, 42]
abbrev dktX1_daringOf_0 : List UInt8 := dkwX1_daringOf_0 ++ dktX1_daringOf_1
theorem dksX1_daringOf_0 : cX1_daringOf.data.toList.drop 0 = dktX1_daringOf_0 := by decide +kernel
theorem dksX1_daringOf_1 : cX1_daringOf.data.toList.drop 22 = dktX1_daringOf_1 := dk_seg dksX1_daringOf_0 22 rfl rfl
theorem dX1_daringOf_0 : decode cX1_daringOf 0 = .ok (.iconst 0, 1) := dk_3 (dk_at dksX1_daringOf_0 0 rfl rfl)
theorem dX1_daringOf_1 : decode cX1_daringOf 1 = .ok (.istore_n 2, 1) := dk_61 (dk_at dksX1_daringOf_0 1 rfl rfl)
theorem dX1_daringOf_2 : decode cX1_daringOf 2 = .ok (.iconst 0, 1) := dk_3 (dk_at dksX1_daringOf_0 2 rfl rfl)
theorem dX1_daringOf_3 : decode cX1_daringOf 3 = .ok (.istore_n 3, 1) := dk_62 (dk_at dksX1_daringOf_0 3 rfl rfl)
theorem dX1_daringOf_4 : decode cX1_daringOf 4 = .ok (.iload_n 3, 1) := dk_29 (dk_at dksX1_daringOf_0 4 rfl rfl)
theorem dX1_daringOf_5 : decode cX1_daringOf 5 = .ok (.aload_n 0, 1) := dk_42 (dk_at dksX1_daringOf_0 5 rfl rfl)
theorem dX1_daringOf_6 : decode cX1_daringOf 6 = .ok (.getfield 136, 3) := dk_180 0 136 (dk_at dksX1_daringOf_0 6 rfl rfl)
theorem dX1_daringOf_9 : decode cX1_daringOf 9 = .ok (.if_icmp .ge 33, 3) := dk_162 0 33 (dk_at dksX1_daringOf_0 9 rfl rfl)
theorem dX1_daringOf_12 : decode cX1_daringOf 12 = .ok (.iload_n 2, 1) := dk_28 (dk_at dksX1_daringOf_0 12 rfl rfl)
theorem dX1_daringOf_13 : decode cX1_daringOf 13 = .ok (.iload_n 1, 1) := dk_27 (dk_at dksX1_daringOf_0 13 rfl rfl)
theorem dX1_daringOf_14 : decode cX1_daringOf 14 = .ok (.iload_n 3, 1) := dk_29 (dk_at dksX1_daringOf_0 14 rfl rfl)
theorem dX1_daringOf_15 : decode cX1_daringOf 15 = .ok (.invokestatic 149, 3) := dk_184 0 149 (dk_at dksX1_daringOf_0 15 rfl rfl)
theorem dX1_daringOf_18 : decode cX1_daringOf 18 = .ok (.ifCond .eq 15, 3) := dk_153 0 15 (dk_at dksX1_daringOf_0 18 rfl rfl)
theorem dX1_daringOf_21 : decode cX1_daringOf 21 = .ok (.aload_n 0, 1) := dk_42 (dk_at dksX1_daringOf_0 21 rfl rfl)
theorem dX1_daringOf_22 : decode cX1_daringOf 22 = .ok (.getfield 7, 3) := dk_180 0 7 (dk_at dksX1_daringOf_1 0 rfl rfl)
theorem dX1_daringOf_25 : decode cX1_daringOf 25 = .ok (.bipush 9, 2) := dk_16 9 (dk_at dksX1_daringOf_1 3 rfl rfl)
theorem dX1_daringOf_27 : decode cX1_daringOf 27 = .ok (.iload_n 3, 1) := dk_29 (dk_at dksX1_daringOf_1 5 rfl rfl)
theorem dX1_daringOf_28 : decode cX1_daringOf 28 = .ok (.iadd, 1) := dk_96 (dk_at dksX1_daringOf_1 6 rfl rfl)
theorem dX1_daringOf_29 : decode cX1_daringOf 29 = .ok (.iaload, 1) := dk_46 (dk_at dksX1_daringOf_1 7 rfl rfl)
theorem dX1_daringOf_30 : decode cX1_daringOf 30 = .ok (.goto 4, 3) := dk_167 0 4 (dk_at dksX1_daringOf_1 8 rfl rfl)
theorem dX1_daringOf_33 : decode cX1_daringOf 33 = .ok (.iconst 0, 1) := dk_3 (dk_at dksX1_daringOf_1 11 rfl rfl)
theorem dX1_daringOf_34 : decode cX1_daringOf 34 = .ok (.iadd, 1) := dk_96 (dk_at dksX1_daringOf_1 12 rfl rfl)
theorem dX1_daringOf_35 : decode cX1_daringOf 35 = .ok (.istore_n 2, 1) := dk_61 (dk_at dksX1_daringOf_1 13 rfl rfl)
theorem dX1_daringOf_36 : decode cX1_daringOf 36 = .ok (.iinc 3 1, 3) := dk_132 3 1 (dk_at dksX1_daringOf_1 14 rfl rfl)
theorem dX1_daringOf_39 : decode cX1_daringOf 39 = .ok (.goto (-35), 3) := dk_167 255 221 (dk_at dksX1_daringOf_1 17 rfl rfl)
theorem dX1_daringOf_42 : decode cX1_daringOf 42 = .ok (.iload_n 2, 1) := dk_28 (dk_at dksX1_daringOf_1 20 rfl rfl)
theorem dX1_daringOf_43 : decode cX1_daringOf 43 = .ok (.ireturn, 1) := dk_172 (dk_at dksX1_daringOf_1 21 rfl rfl)
abbrev cX1_sure : ByteArray := prog_10_method_74_code
def yX1_sure : MethodName := ⟨RX1, "sure", "(I)I"⟩
def dkwX1_sure_4 : List UInt8 := [21, 4, 172]
abbrev dktX1_sure_4 : List UInt8 := dkwX1_sure_4 ++ []
def dkwX1_sure_3 : List UInt8 := [167, 255, 220, 21, 6, 154, 0, 9, 42, 7, 182, 0, 69, 172, 42, 29, 21, 5, 2, 130, 126, 181, 0, 54]
abbrev dktX1_sure_3 : List UInt8 := dkwX1_sure_3 ++ dktX1_sure_4
def dkwX1_sure_2 : List UInt8 := [160, 0, 20, 4, 54, 6, 21, 4, 21, 7, 126, 54, 4, 21, 5, 21, 7, 128, 54, 5, 132, 7, 1]
abbrev dktX1_sure_2 : List UInt8 := dkwX1_sure_2 ++ dktX1_sure_3
def dkwX1_sure_1 : List UInt8 := [3, 54, 5, 3, 54, 6, 3, 54, 7, 21, 7, 29, 163, 0, 36, 42, 21, 7, 182, 0, 236, 27]
abbrev dktX1_sure_1 : List UInt8 := dkwX1_sure_1 ++ dktX1_sure_2
def dkwX1_sure_0 : List UInt8 := [42, 27, 182, 0, 233, 61, 28, 153, 0, 5, 28, 172, 4, 42, 180, 0, 136, 120, 4, 100, 62, 29, 54, 4]
abbrev dktX1_sure_0 : List UInt8 := dkwX1_sure_0 ++ dktX1_sure_1
theorem dksX1_sure_0 : cX1_sure.data.toList.drop 0 = dktX1_sure_0 := by decide +kernel
theorem dksX1_sure_1 : cX1_sure.data.toList.drop 24 = dktX1_sure_1 := dk_seg dksX1_sure_0 24 rfl rfl
theorem dksX1_sure_2 : cX1_sure.data.toList.drop 46 = dktX1_sure_2 := dk_seg dksX1_sure_1 22 rfl rfl
theorem dksX1_sure_3 : cX1_sure.data.toList.drop 69 = dktX1_sure_3 := dk_seg dksX1_sure_2 23 rfl rfl
theorem dksX1_sure_4 : cX1_sure.data.toList.drop 93 = dktX1_sure_4 := dk_seg dksX1_sure_3 24 rfl rfl
theorem dX1_sure_0 : decode cX1_sure 0 = .ok (.aload_n 0, 1) := dk_42 (dk_at dksX1_sure_0 0 rfl rfl)
theorem dX1_sure_1 : decode cX1_sure 1 = .ok (.iload_n 1, 1) := dk_27 (dk_at dksX1_sure_0 1 rfl rfl)
theorem dX1_sure_2 : decode cX1_sure 2 = .ok (.invokevirtual 233, 3) := dk_182 0 233 (dk_at dksX1_sure_0 2 rfl rfl)
theorem dX1_sure_5 : decode cX1_sure 5 = .ok (.istore_n 2, 1) := dk_61 (dk_at dksX1_sure_0 5 rfl rfl)
theorem dX1_sure_6 : decode cX1_sure 6 = .ok (.iload_n 2, 1) := dk_28 (dk_at dksX1_sure_0 6 rfl rfl)
theorem dX1_sure_7 : decode cX1_sure 7 = .ok (.ifCond .eq 5, 3) := dk_153 0 5 (dk_at dksX1_sure_0 7 rfl rfl)
theorem dX1_sure_10 : decode cX1_sure 10 = .ok (.iload_n 2, 1) := dk_28 (dk_at dksX1_sure_0 10 rfl rfl)
theorem dX1_sure_11 : decode cX1_sure 11 = .ok (.ireturn, 1) := dk_172 (dk_at dksX1_sure_0 11 rfl rfl)
theorem dX1_sure_12 : decode cX1_sure 12 = .ok (.iconst 1, 1) := dk_4 (dk_at dksX1_sure_0 12 rfl rfl)
theorem dX1_sure_13 : decode cX1_sure 13 = .ok (.aload_n 0, 1) := dk_42 (dk_at dksX1_sure_0 13 rfl rfl)
theorem dX1_sure_14 : decode cX1_sure 14 = .ok (.getfield 136, 3) := dk_180 0 136 (dk_at dksX1_sure_0 14 rfl rfl)
theorem dX1_sure_17 : decode cX1_sure 17 = .ok (.ishl, 1) := dk_120 (dk_at dksX1_sure_0 17 rfl rfl)
theorem dX1_sure_18 : decode cX1_sure 18 = .ok (.iconst 1, 1) := dk_4 (dk_at dksX1_sure_0 18 rfl rfl)
theorem dX1_sure_19 : decode cX1_sure 19 = .ok (.isub, 1) := dk_100 (dk_at dksX1_sure_0 19 rfl rfl)
theorem dX1_sure_20 : decode cX1_sure 20 = .ok (.istore_n 3, 1) := dk_62 (dk_at dksX1_sure_0 20 rfl rfl)
theorem dX1_sure_21 : decode cX1_sure 21 = .ok (.iload_n 3, 1) := dk_29 (dk_at dksX1_sure_0 21 rfl rfl)
theorem dX1_sure_22 : decode cX1_sure 22 = .ok (.istore 4, 2) := dk_54 4 (dk_at dksX1_sure_0 22 rfl rfl)
theorem dX1_sure_24 : decode cX1_sure 24 = .ok (.iconst 0, 1) := dk_3 (dk_at dksX1_sure_1 0 rfl rfl)
theorem dX1_sure_25 : decode cX1_sure 25 = .ok (.istore 5, 2) := dk_54 5 (dk_at dksX1_sure_1 1 rfl rfl)
theorem dX1_sure_27 : decode cX1_sure 27 = .ok (.iconst 0, 1) := dk_3 (dk_at dksX1_sure_1 3 rfl rfl)
theorem dX1_sure_28 : decode cX1_sure 28 = .ok (.istore 6, 2) := dk_54 6 (dk_at dksX1_sure_1 4 rfl rfl)
theorem dX1_sure_30 : decode cX1_sure 30 = .ok (.iconst 0, 1) := dk_3 (dk_at dksX1_sure_1 6 rfl rfl)
theorem dX1_sure_31 : decode cX1_sure 31 = .ok (.istore 7, 2) := dk_54 7 (dk_at dksX1_sure_1 7 rfl rfl)
theorem dX1_sure_33 : decode cX1_sure 33 = .ok (.iload 7, 2) := dk_21 7 (dk_at dksX1_sure_1 9 rfl rfl)
theorem dX1_sure_35 : decode cX1_sure 35 = .ok (.iload_n 3, 1) := dk_29 (dk_at dksX1_sure_1 11 rfl rfl)
theorem dX1_sure_36 : decode cX1_sure 36 = .ok (.if_icmp .gt 36, 3) := dk_163 0 36 (dk_at dksX1_sure_1 12 rfl rfl)
theorem dX1_sure_39 : decode cX1_sure 39 = .ok (.aload_n 0, 1) := dk_42 (dk_at dksX1_sure_1 15 rfl rfl)
theorem dX1_sure_40 : decode cX1_sure 40 = .ok (.iload 7, 2) := dk_21 7 (dk_at dksX1_sure_1 16 rfl rfl)
theorem dX1_sure_42 : decode cX1_sure 42 = .ok (.invokevirtual 236, 3) := dk_182 0 236 (dk_at dksX1_sure_1 18 rfl rfl)
theorem dX1_sure_45 : decode cX1_sure 45 = .ok (.iload_n 1, 1) := dk_27 (dk_at dksX1_sure_1 21 rfl rfl)
theorem dX1_sure_46 : decode cX1_sure 46 = .ok (.if_icmp .ne 20, 3) := dk_160 0 20 (dk_at dksX1_sure_2 0 rfl rfl)
theorem dX1_sure_49 : decode cX1_sure 49 = .ok (.iconst 1, 1) := dk_4 (dk_at dksX1_sure_2 3 rfl rfl)
theorem dX1_sure_50 : decode cX1_sure 50 = .ok (.istore 6, 2) := dk_54 6 (dk_at dksX1_sure_2 4 rfl rfl)
theorem dX1_sure_52 : decode cX1_sure 52 = .ok (.iload 4, 2) := dk_21 4 (dk_at dksX1_sure_2 6 rfl rfl)
theorem dX1_sure_54 : decode cX1_sure 54 = .ok (.iload 7, 2) := dk_21 7 (dk_at dksX1_sure_2 8 rfl rfl)
theorem dX1_sure_56 : decode cX1_sure 56 = .ok (.iand, 1) := dk_126 (dk_at dksX1_sure_2 10 rfl rfl)
theorem dX1_sure_57 : decode cX1_sure 57 = .ok (.istore 4, 2) := dk_54 4 (dk_at dksX1_sure_2 11 rfl rfl)
theorem dX1_sure_59 : decode cX1_sure 59 = .ok (.iload 5, 2) := dk_21 5 (dk_at dksX1_sure_2 13 rfl rfl)
theorem dX1_sure_61 : decode cX1_sure 61 = .ok (.iload 7, 2) := dk_21 7 (dk_at dksX1_sure_2 15 rfl rfl)
theorem dX1_sure_63 : decode cX1_sure 63 = .ok (.ior, 1) := dk_128 (dk_at dksX1_sure_2 17 rfl rfl)
theorem dX1_sure_64 : decode cX1_sure 64 = .ok (.istore 5, 2) := dk_54 5 (dk_at dksX1_sure_2 18 rfl rfl)
theorem dX1_sure_66 : decode cX1_sure 66 = .ok (.iinc 7 1, 3) := dk_132 7 1 (dk_at dksX1_sure_2 20 rfl rfl)
theorem dX1_sure_69 : decode cX1_sure 69 = .ok (.goto (-36), 3) := dk_167 255 220 (dk_at dksX1_sure_3 0 rfl rfl)
theorem dX1_sure_72 : decode cX1_sure 72 = .ok (.iload 6, 2) := dk_21 6 (dk_at dksX1_sure_3 3 rfl rfl)
theorem dX1_sure_74 : decode cX1_sure 74 = .ok (.ifCond .ne 9, 3) := dk_154 0 9 (dk_at dksX1_sure_3 5 rfl rfl)
theorem dX1_sure_77 : decode cX1_sure 77 = .ok (.aload_n 0, 1) := dk_42 (dk_at dksX1_sure_3 8 rfl rfl)
theorem dX1_sure_78 : decode cX1_sure 78 = .ok (.iconst 4, 1) := dk_7 (dk_at dksX1_sure_3 9 rfl rfl)
theorem dX1_sure_79 : decode cX1_sure 79 = .ok (.invokevirtual 69, 3) := dk_182 0 69 (dk_at dksX1_sure_3 10 rfl rfl)
theorem dX1_sure_82 : decode cX1_sure 82 = .ok (.ireturn, 1) := dk_172 (dk_at dksX1_sure_3 13 rfl rfl)
theorem dX1_sure_83 : decode cX1_sure 83 = .ok (.aload_n 0, 1) := dk_42 (dk_at dksX1_sure_3 14 rfl rfl)
theorem dX1_sure_84 : decode cX1_sure 84 = .ok (.iload_n 3, 1) := dk_29 (dk_at dksX1_sure_3 15 rfl rfl)
theorem dX1_sure_85 : decode cX1_sure 85 = .ok (.iload 5, 2) := dk_21 5 (dk_at dksX1_sure_3 16 rfl rfl)
theorem dX1_sure_87 : decode cX1_sure 87 = .ok (.iconst (-1), 1) := dk_2 (dk_at dksX1_sure_3 18 rfl rfl)
theorem dX1_sure_88 : decode cX1_sure 88 = .ok (.ixor, 1) := dk_130 (dk_at dksX1_sure_3 19 rfl rfl)
theorem dX1_sure_89 : decode cX1_sure 89 = .ok (.iand, 1) := dk_126 (dk_at dksX1_sure_3 20 rfl rfl)
theorem dX1_sure_90 : decode cX1_sure 90 = .ok (.putfield 54, 3) := dk_181 0 54 (dk_at dksX1_sure_3 21 rfl rfl)
theorem dX1_sure_93 : decode cX1_sure 93 = .ok (.iload 4, 2) := dk_21 4 (dk_at dksX1_sure_4 0 rfl rfl)
theorem dX1_sure_95 : decode cX1_sure 95 = .ok (.ireturn, 1) := dk_172 (dk_at dksX1_sure_4 2 rfl rfl)
abbrev cX1_duel : ByteArray := prog_10_method_77_code
def yX1_duel : MethodName := ⟨RX1, "duel", "(III)I"⟩
def dkwX1_duel_12 : List UInt8 := [42, 42, 180, 0, 47, 3, 46, 181, 0, 54, 4, 172]
abbrev dktX1_duel_12 : List UInt8 := dkwX1_duel_12 ++ []
def dkwX1_duel_11 : List UInt8 := [167, 255, 161, 42, 180, 0, 47, 21, 7, 21, 9, 79, 132, 7, 1, 167, 255, 105, 132, 4, 255, 167, 255, 62]
abbrev dktX1_duel_11 : List UInt8 := dkwX1_duel_11 ++ dktX1_duel_12
def dkwX1_duel_10 : List UInt8 := [21, 9, 167, 0, 17, 21, 11, 21, 9, 162, 0, 8, 21, 11, 167, 0, 5, 21, 9, 54, 9, 132, 10, 1]
abbrev dktX1_duel_10 : List UInt8 := dkwX1_duel_10 ++ dktX1_duel_11
def dkwX1_duel_9 : List UInt8 := [21, 9, 54, 11, 21, 4, 5, 112, 154, 0, 20, 21, 11, 21, 9, 164, 0, 8, 21, 11, 167, 0, 22]
abbrev dktX1_duel_9 : List UInt8 := dkwX1_duel_9 ++ dktX1_duel_10
def dkwX1_duel_8 : List UInt8 := [182, 0, 242, 16, 21, 162, 0, 19, 42, 180, 0, 47, 21, 7, 21, 6, 21, 10, 104, 96, 46, 167, 0, 5]
abbrev dktX1_duel_8 : List UInt8 := dkwX1_duel_8 ++ dktX1_duel_9
def dkwX1_duel_7 : List UInt8 := [6, 162, 0, 95, 21, 8, 21, 10, 96, 16, 7, 162, 0, 85, 42, 21, 5, 21, 8, 21, 10, 96]
abbrev dktX1_duel_7 : List UInt8 := dkwX1_duel_7 ++ dktX1_duel_8
def dkwX1_duel_6 : List UInt8 := [167, 0, 8, 21, 7, 16, 7, 112, 54, 8, 42, 180, 0, 47, 21, 7, 46, 54, 9, 4, 54, 10, 21, 10]
abbrev dktX1_duel_6 : List UInt8 := dkwX1_duel_6 ++ dktX1_duel_7
def dkwX1_duel_5 : List UInt8 := [54, 6, 3, 54, 7, 21, 7, 16, 49, 162, 0, 150, 21, 4, 5, 112, 154, 0, 11, 21, 7, 16, 7, 108]
abbrev dktX1_duel_5 : List UInt8 := dkwX1_duel_5 ++ dktX1_duel_6
def dkwX1_duel_4 : List UInt8 := [154, 0, 7, 27, 167, 0, 4, 28, 54, 5, 21, 4, 5, 112, 154, 0, 8, 16, 7, 167, 0, 4, 4]
abbrev dktX1_duel_4 : List UInt8 := dkwX1_duel_4 ++ dktX1_duel_5
def dkwX1_duel_3 : List UInt8 := [132, 4, 1, 167, 255, 223, 5, 29, 104, 4, 100, 54, 4, 21, 4, 155, 0, 195, 21, 4, 5, 112]
abbrev dktX1_duel_3 : List UInt8 := dkwX1_duel_3 ++ dktX1_duel_4
def dkwX1_duel_2 : List UInt8 := [180, 0, 47, 21, 4, 42, 27, 28, 21, 4, 16, 7, 108, 21, 4, 16, 7, 112, 182, 0, 245, 79]
abbrev dktX1_duel_2 : List UInt8 := dkwX1_duel_2 ++ dktX1_duel_3
def dkwX1_duel_1 : List UInt8 := [20, 0, 63, 184, 0, 59, 154, 0, 5, 2, 172, 3, 54, 4, 21, 4, 16, 49, 162, 0, 32, 42]
abbrev dktX1_duel_1 : List UInt8 := dkwX1_duel_1 ++ dktX1_duel_2
def dkwX1_duel_0 : List UInt8 := [42, 27, 182, 0, 162, 153, 0, 28, 42, 28, 182, 0, 162, 153, 0, 20, 27, 28, 159, 0, 15, 29, 133, 9]
abbrev dktX1_duel_0 : List UInt8 := dkwX1_duel_0 ++ dktX1_duel_1
theorem dksX1_duel_0 : cX1_duel.data.toList.drop 0 = dktX1_duel_0 := by decide +kernel
theorem dksX1_duel_1 : cX1_duel.data.toList.drop 24 = dktX1_duel_1 := dk_seg dksX1_duel_0 24 rfl rfl
theorem dksX1_duel_2 : cX1_duel.data.toList.drop 46 = dktX1_duel_2 := dk_seg dksX1_duel_1 22 rfl rfl
theorem dksX1_duel_3 : cX1_duel.data.toList.drop 68 = dktX1_duel_3 := dk_seg dksX1_duel_2 22 rfl rfl
theorem dksX1_duel_4 : cX1_duel.data.toList.drop 90 = dktX1_duel_4 := dk_seg dksX1_duel_3 22 rfl rfl
theorem dksX1_duel_5 : cX1_duel.data.toList.drop 113 = dktX1_duel_5 := dk_seg dksX1_duel_4 23 rfl rfl
theorem dksX1_duel_6 : cX1_duel.data.toList.drop 137 = dktX1_duel_6 := dk_seg dksX1_duel_5 24 rfl rfl
theorem dksX1_duel_7 : cX1_duel.data.toList.drop 161 = dktX1_duel_7 := dk_seg dksX1_duel_6 24 rfl rfl
theorem dksX1_duel_8 : cX1_duel.data.toList.drop 183 = dktX1_duel_8 := dk_seg dksX1_duel_7 22 rfl rfl
theorem dksX1_duel_9 : cX1_duel.data.toList.drop 207 = dktX1_duel_9 := dk_seg dksX1_duel_8 24 rfl rfl
theorem dksX1_duel_10 : cX1_duel.data.toList.drop 230 = dktX1_duel_10 := dk_seg dksX1_duel_9 23 rfl rfl
theorem dksX1_duel_11 : cX1_duel.data.toList.drop 254 = dktX1_duel_11 := dk_seg dksX1_duel_10 24 rfl rfl
theorem dksX1_duel_12 : cX1_duel.data.toList.drop 278 = dktX1_duel_12 := dk_seg dksX1_duel_11 24 rfl rfl
theorem dX1_duel_0 : decode cX1_duel 0 = .ok (.aload_n 0, 1) := dk_42 (dk_at dksX1_duel_0 0 rfl rfl)
theorem dX1_duel_1 : decode cX1_duel 1 = .ok (.iload_n 1, 1) := dk_27 (dk_at dksX1_duel_0 1 rfl rfl)
theorem dX1_duel_2 : decode cX1_duel 2 = .ok (.invokevirtual 162, 3) := dk_182 0 162 (dk_at dksX1_duel_0 2 rfl rfl)
theorem dX1_duel_5 : decode cX1_duel 5 = .ok (.ifCond .eq 28, 3) := dk_153 0 28 (dk_at dksX1_duel_0 5 rfl rfl)
theorem dX1_duel_8 : decode cX1_duel 8 = .ok (.aload_n 0, 1) := dk_42 (dk_at dksX1_duel_0 8 rfl rfl)
theorem dX1_duel_9 : decode cX1_duel 9 = .ok (.iload_n 2, 1) := dk_28 (dk_at dksX1_duel_0 9 rfl rfl)
theorem dX1_duel_10 : decode cX1_duel 10 = .ok (.invokevirtual 162, 3) := dk_182 0 162 (dk_at dksX1_duel_0 10 rfl rfl)
theorem dX1_duel_13 : decode cX1_duel 13 = .ok (.ifCond .eq 20, 3) := dk_153 0 20 (dk_at dksX1_duel_0 13 rfl rfl)
theorem dX1_duel_16 : decode cX1_duel 16 = .ok (.iload_n 1, 1) := dk_27 (dk_at dksX1_duel_0 16 rfl rfl)
theorem dX1_duel_17 : decode cX1_duel 17 = .ok (.iload_n 2, 1) := dk_28 (dk_at dksX1_duel_0 17 rfl rfl)
theorem dX1_duel_18 : decode cX1_duel 18 = .ok (.if_icmp .eq 15, 3) := dk_159 0 15 (dk_at dksX1_duel_0 18 rfl rfl)
theorem dX1_duel_21 : decode cX1_duel 21 = .ok (.iload_n 3, 1) := dk_29 (dk_at dksX1_duel_0 21 rfl rfl)
theorem dX1_duel_22 : decode cX1_duel 22 = .ok (.i2l, 1) := dk_133 (dk_at dksX1_duel_0 22 rfl rfl)
theorem dX1_duel_23 : decode cX1_duel 23 = .ok (.lconst 0, 1) := dk_9 (dk_at dksX1_duel_0 23 rfl rfl)
theorem dX1_duel_24 : decode cX1_duel 24 = .ok (.ldc2_w 63, 3) := dk_20 0 63 (dk_at dksX1_duel_1 0 rfl rfl)
theorem dX1_duel_27 : decode cX1_duel 27 = .ok (.invokestatic 59, 3) := dk_184 0 59 (dk_at dksX1_duel_1 3 rfl rfl)
theorem dX1_duel_30 : decode cX1_duel 30 = .ok (.ifCond .ne 5, 3) := dk_154 0 5 (dk_at dksX1_duel_1 6 rfl rfl)
theorem dX1_duel_33 : decode cX1_duel 33 = .ok (.iconst (-1), 1) := dk_2 (dk_at dksX1_duel_1 9 rfl rfl)
theorem dX1_duel_34 : decode cX1_duel 34 = .ok (.ireturn, 1) := dk_172 (dk_at dksX1_duel_1 10 rfl rfl)
theorem dX1_duel_35 : decode cX1_duel 35 = .ok (.iconst 0, 1) := dk_3 (dk_at dksX1_duel_1 11 rfl rfl)
theorem dX1_duel_36 : decode cX1_duel 36 = .ok (.istore 4, 2) := dk_54 4 (dk_at dksX1_duel_1 12 rfl rfl)
theorem dX1_duel_38 : decode cX1_duel 38 = .ok (.iload 4, 2) := dk_21 4 (dk_at dksX1_duel_1 14 rfl rfl)
theorem dX1_duel_40 : decode cX1_duel 40 = .ok (.bipush 49, 2) := dk_16 49 (dk_at dksX1_duel_1 16 rfl rfl)
theorem dX1_duel_42 : decode cX1_duel 42 = .ok (.if_icmp .ge 32, 3) := dk_162 0 32 (dk_at dksX1_duel_1 18 rfl rfl)
theorem dX1_duel_45 : decode cX1_duel 45 = .ok (.aload_n 0, 1) := dk_42 (dk_at dksX1_duel_1 21 rfl rfl)
theorem dX1_duel_46 : decode cX1_duel 46 = .ok (.getfield 47, 3) := dk_180 0 47 (dk_at dksX1_duel_2 0 rfl rfl)
theorem dX1_duel_49 : decode cX1_duel 49 = .ok (.iload 4, 2) := dk_21 4 (dk_at dksX1_duel_2 3 rfl rfl)
theorem dX1_duel_51 : decode cX1_duel 51 = .ok (.aload_n 0, 1) := dk_42 (dk_at dksX1_duel_2 5 rfl rfl)
theorem dX1_duel_52 : decode cX1_duel 52 = .ok (.iload_n 1, 1) := dk_27 (dk_at dksX1_duel_2 6 rfl rfl)
theorem dX1_duel_53 : decode cX1_duel 53 = .ok (.iload_n 2, 1) := dk_28 (dk_at dksX1_duel_2 7 rfl rfl)
theorem dX1_duel_54 : decode cX1_duel 54 = .ok (.iload 4, 2) := dk_21 4 (dk_at dksX1_duel_2 8 rfl rfl)
theorem dX1_duel_56 : decode cX1_duel 56 = .ok (.bipush 7, 2) := dk_16 7 (dk_at dksX1_duel_2 10 rfl rfl)
theorem dX1_duel_58 : decode cX1_duel 58 = .ok (.idiv, 1) := dk_108 (dk_at dksX1_duel_2 12 rfl rfl)
theorem dX1_duel_59 : decode cX1_duel 59 = .ok (.iload 4, 2) := dk_21 4 (dk_at dksX1_duel_2 13 rfl rfl)
theorem dX1_duel_61 : decode cX1_duel 61 = .ok (.bipush 7, 2) := dk_16 7 (dk_at dksX1_duel_2 15 rfl rfl)
theorem dX1_duel_63 : decode cX1_duel 63 = .ok (.irem, 1) := dk_112 (dk_at dksX1_duel_2 17 rfl rfl)
theorem dX1_duel_64 : decode cX1_duel 64 = .ok (.invokevirtual 245, 3) := dk_182 0 245 (dk_at dksX1_duel_2 18 rfl rfl)
theorem dX1_duel_67 : decode cX1_duel 67 = .ok (.iastore, 1) := dk_79 (dk_at dksX1_duel_2 21 rfl rfl)
theorem dX1_duel_68 : decode cX1_duel 68 = .ok (.iinc 4 1, 3) := dk_132 4 1 (dk_at dksX1_duel_3 0 rfl rfl)
theorem dX1_duel_71 : decode cX1_duel 71 = .ok (.goto (-33), 3) := dk_167 255 223 (dk_at dksX1_duel_3 3 rfl rfl)
theorem dX1_duel_74 : decode cX1_duel 74 = .ok (.iconst 2, 1) := dk_5 (dk_at dksX1_duel_3 6 rfl rfl)
theorem dX1_duel_75 : decode cX1_duel 75 = .ok (.iload_n 3, 1) := dk_29 (dk_at dksX1_duel_3 7 rfl rfl)
theorem dX1_duel_76 : decode cX1_duel 76 = .ok (.imul, 1) := dk_104 (dk_at dksX1_duel_3 8 rfl rfl)
theorem dX1_duel_77 : decode cX1_duel 77 = .ok (.iconst 1, 1) := dk_4 (dk_at dksX1_duel_3 9 rfl rfl)
theorem dX1_duel_78 : decode cX1_duel 78 = .ok (.isub, 1) := dk_100 (dk_at dksX1_duel_3 10 rfl rfl)
theorem dX1_duel_79 : decode cX1_duel 79 = .ok (.istore 4, 2) := dk_54 4 (dk_at dksX1_duel_3 11 rfl rfl)
theorem dX1_duel_81 : decode cX1_duel 81 = .ok (.iload 4, 2) := dk_21 4 (dk_at dksX1_duel_3 13 rfl rfl)
theorem dX1_duel_83 : decode cX1_duel 83 = .ok (.ifCond .lt 195, 3) := dk_155 0 195 (dk_at dksX1_duel_3 15 rfl rfl)
theorem dX1_duel_86 : decode cX1_duel 86 = .ok (.iload 4, 2) := dk_21 4 (dk_at dksX1_duel_3 18 rfl rfl)
theorem dX1_duel_88 : decode cX1_duel 88 = .ok (.iconst 2, 1) := dk_5 (dk_at dksX1_duel_3 20 rfl rfl)
theorem dX1_duel_89 : decode cX1_duel 89 = .ok (.irem, 1) := dk_112 (dk_at dksX1_duel_3 21 rfl rfl)
theorem dX1_duel_90 : decode cX1_duel 90 = .ok (.ifCond .ne 7, 3) := dk_154 0 7 (dk_at dksX1_duel_4 0 rfl rfl)
theorem dX1_duel_93 : decode cX1_duel 93 = .ok (.iload_n 1, 1) := dk_27 (dk_at dksX1_duel_4 3 rfl rfl)
theorem dX1_duel_94 : decode cX1_duel 94 = .ok (.goto 4, 3) := dk_167 0 4 (dk_at dksX1_duel_4 4 rfl rfl)
theorem dX1_duel_97 : decode cX1_duel 97 = .ok (.iload_n 2, 1) := dk_28 (dk_at dksX1_duel_4 7 rfl rfl)
theorem dX1_duel_98 : decode cX1_duel 98 = .ok (.istore 5, 2) := dk_54 5 (dk_at dksX1_duel_4 8 rfl rfl)
theorem dX1_duel_100 : decode cX1_duel 100 = .ok (.iload 4, 2) := dk_21 4 (dk_at dksX1_duel_4 10 rfl rfl)
theorem dX1_duel_102 : decode cX1_duel 102 = .ok (.iconst 2, 1) := dk_5 (dk_at dksX1_duel_4 12 rfl rfl)
theorem dX1_duel_103 : decode cX1_duel 103 = .ok (.irem, 1) := dk_112 (dk_at dksX1_duel_4 13 rfl rfl)
theorem dX1_duel_104 : decode cX1_duel 104 = .ok (.ifCond .ne 8, 3) := dk_154 0 8 (dk_at dksX1_duel_4 14 rfl rfl)
theorem dX1_duel_107 : decode cX1_duel 107 = .ok (.bipush 7, 2) := dk_16 7 (dk_at dksX1_duel_4 17 rfl rfl)
theorem dX1_duel_109 : decode cX1_duel 109 = .ok (.goto 4, 3) := dk_167 0 4 (dk_at dksX1_duel_4 19 rfl rfl)
theorem dX1_duel_112 : decode cX1_duel 112 = .ok (.iconst 1, 1) := dk_4 (dk_at dksX1_duel_4 22 rfl rfl)
theorem dX1_duel_113 : decode cX1_duel 113 = .ok (.istore 6, 2) := dk_54 6 (dk_at dksX1_duel_5 0 rfl rfl)
theorem dX1_duel_115 : decode cX1_duel 115 = .ok (.iconst 0, 1) := dk_3 (dk_at dksX1_duel_5 2 rfl rfl)
theorem dX1_duel_116 : decode cX1_duel 116 = .ok (.istore 7, 2) := dk_54 7 (dk_at dksX1_duel_5 3 rfl rfl)
theorem dX1_duel_118 : decode cX1_duel 118 = .ok (.iload 7, 2) := dk_21 7 (dk_at dksX1_duel_5 5 rfl rfl)
theorem dX1_duel_120 : decode cX1_duel 120 = .ok (.bipush 49, 2) := dk_16 49 (dk_at dksX1_duel_5 7 rfl rfl)
theorem dX1_duel_122 : decode cX1_duel 122 = .ok (.if_icmp .ge 150, 3) := dk_162 0 150 (dk_at dksX1_duel_5 9 rfl rfl)
theorem dX1_duel_125 : decode cX1_duel 125 = .ok (.iload 4, 2) := dk_21 4 (dk_at dksX1_duel_5 12 rfl rfl)
theorem dX1_duel_127 : decode cX1_duel 127 = .ok (.iconst 2, 1) := dk_5 (dk_at dksX1_duel_5 14 rfl rfl)
theorem dX1_duel_128 : decode cX1_duel 128 = .ok (.irem, 1) := dk_112 (dk_at dksX1_duel_5 15 rfl rfl)
theorem dX1_duel_129 : decode cX1_duel 129 = .ok (.ifCond .ne 11, 3) := dk_154 0 11 (dk_at dksX1_duel_5 16 rfl rfl)
theorem dX1_duel_132 : decode cX1_duel 132 = .ok (.iload 7, 2) := dk_21 7 (dk_at dksX1_duel_5 19 rfl rfl)
theorem dX1_duel_134 : decode cX1_duel 134 = .ok (.bipush 7, 2) := dk_16 7 (dk_at dksX1_duel_5 21 rfl rfl)
theorem dX1_duel_136 : decode cX1_duel 136 = .ok (.idiv, 1) := dk_108 (dk_at dksX1_duel_5 23 rfl rfl)
theorem dX1_duel_137 : decode cX1_duel 137 = .ok (.goto 8, 3) := dk_167 0 8 (dk_at dksX1_duel_6 0 rfl rfl)
theorem dX1_duel_140 : decode cX1_duel 140 = .ok (.iload 7, 2) := dk_21 7 (dk_at dksX1_duel_6 3 rfl rfl)
theorem dX1_duel_142 : decode cX1_duel 142 = .ok (.bipush 7, 2) := dk_16 7 (dk_at dksX1_duel_6 5 rfl rfl)
theorem dX1_duel_144 : decode cX1_duel 144 = .ok (.irem, 1) := dk_112 (dk_at dksX1_duel_6 7 rfl rfl)
theorem dX1_duel_145 : decode cX1_duel 145 = .ok (.istore 8, 2) := dk_54 8 (dk_at dksX1_duel_6 8 rfl rfl)
theorem dX1_duel_147 : decode cX1_duel 147 = .ok (.aload_n 0, 1) := dk_42 (dk_at dksX1_duel_6 10 rfl rfl)
theorem dX1_duel_148 : decode cX1_duel 148 = .ok (.getfield 47, 3) := dk_180 0 47 (dk_at dksX1_duel_6 11 rfl rfl)
theorem dX1_duel_151 : decode cX1_duel 151 = .ok (.iload 7, 2) := dk_21 7 (dk_at dksX1_duel_6 14 rfl rfl)
theorem dX1_duel_153 : decode cX1_duel 153 = .ok (.iaload, 1) := dk_46 (dk_at dksX1_duel_6 16 rfl rfl)
theorem dX1_duel_154 : decode cX1_duel 154 = .ok (.istore 9, 2) := dk_54 9 (dk_at dksX1_duel_6 17 rfl rfl)
theorem dX1_duel_156 : decode cX1_duel 156 = .ok (.iconst 1, 1) := dk_4 (dk_at dksX1_duel_6 19 rfl rfl)
theorem dX1_duel_157 : decode cX1_duel 157 = .ok (.istore 10, 2) := dk_54 10 (dk_at dksX1_duel_6 20 rfl rfl)
theorem dX1_duel_159 : decode cX1_duel 159 = .ok (.iload 10, 2) := dk_21 10 (dk_at dksX1_duel_6 22 rfl rfl)
theorem dX1_duel_161 : decode cX1_duel 161 = .ok (.iconst 3, 1) := dk_6 (dk_at dksX1_duel_7 0 rfl rfl)
theorem dX1_duel_162 : decode cX1_duel 162 = .ok (.if_icmp .ge 95, 3) := dk_162 0 95 (dk_at dksX1_duel_7 1 rfl rfl)
theorem dX1_duel_165 : decode cX1_duel 165 = .ok (.iload 8, 2) := dk_21 8 (dk_at dksX1_duel_7 4 rfl rfl)
theorem dX1_duel_167 : decode cX1_duel 167 = .ok (.iload 10, 2) := dk_21 10 (dk_at dksX1_duel_7 6 rfl rfl)
theorem dX1_duel_169 : decode cX1_duel 169 = .ok (.iadd, 1) := dk_96 (dk_at dksX1_duel_7 8 rfl rfl)
theorem dX1_duel_170 : decode cX1_duel 170 = .ok (.bipush 7, 2) := dk_16 7 (dk_at dksX1_duel_7 9 rfl rfl)
theorem dX1_duel_172 : decode cX1_duel 172 = .ok (.if_icmp .ge 85, 3) := dk_162 0 85 (dk_at dksX1_duel_7 11 rfl rfl)
theorem dX1_duel_175 : decode cX1_duel 175 = .ok (.aload_n 0, 1) := dk_42 (dk_at dksX1_duel_7 14 rfl rfl)
theorem dX1_duel_176 : decode cX1_duel 176 = .ok (.iload 5, 2) := dk_21 5 (dk_at dksX1_duel_7 15 rfl rfl)
theorem dX1_duel_178 : decode cX1_duel 178 = .ok (.iload 8, 2) := dk_21 8 (dk_at dksX1_duel_7 17 rfl rfl)
theorem dX1_duel_180 : decode cX1_duel 180 = .ok (.iload 10, 2) := dk_21 10 (dk_at dksX1_duel_7 19 rfl rfl)
theorem dX1_duel_182 : decode cX1_duel 182 = .ok (.iadd, 1) := dk_96 (dk_at dksX1_duel_7 21 rfl rfl)
theorem dX1_duel_183 : decode cX1_duel 183 = .ok (.invokevirtual 242, 3) := dk_182 0 242 (dk_at dksX1_duel_8 0 rfl rfl)
theorem dX1_duel_186 : decode cX1_duel 186 = .ok (.bipush 21, 2) := dk_16 21 (dk_at dksX1_duel_8 3 rfl rfl)
theorem dX1_duel_188 : decode cX1_duel 188 = .ok (.if_icmp .ge 19, 3) := dk_162 0 19 (dk_at dksX1_duel_8 5 rfl rfl)
theorem dX1_duel_191 : decode cX1_duel 191 = .ok (.aload_n 0, 1) := dk_42 (dk_at dksX1_duel_8 8 rfl rfl)
theorem dX1_duel_192 : decode cX1_duel 192 = .ok (.getfield 47, 3) := dk_180 0 47 (dk_at dksX1_duel_8 9 rfl rfl)
theorem dX1_duel_195 : decode cX1_duel 195 = .ok (.iload 7, 2) := dk_21 7 (dk_at dksX1_duel_8 12 rfl rfl)
theorem dX1_duel_197 : decode cX1_duel 197 = .ok (.iload 6, 2) := dk_21 6 (dk_at dksX1_duel_8 14 rfl rfl)
theorem dX1_duel_199 : decode cX1_duel 199 = .ok (.iload 10, 2) := dk_21 10 (dk_at dksX1_duel_8 16 rfl rfl)
theorem dX1_duel_201 : decode cX1_duel 201 = .ok (.imul, 1) := dk_104 (dk_at dksX1_duel_8 18 rfl rfl)
theorem dX1_duel_202 : decode cX1_duel 202 = .ok (.iadd, 1) := dk_96 (dk_at dksX1_duel_8 19 rfl rfl)
theorem dX1_duel_203 : decode cX1_duel 203 = .ok (.iaload, 1) := dk_46 (dk_at dksX1_duel_8 20 rfl rfl)
theorem dX1_duel_204 : decode cX1_duel 204 = .ok (.goto 5, 3) := dk_167 0 5 (dk_at dksX1_duel_8 21 rfl rfl)
theorem dX1_duel_207 : decode cX1_duel 207 = .ok (.iload 9, 2) := dk_21 9 (dk_at dksX1_duel_9 0 rfl rfl)
theorem dX1_duel_209 : decode cX1_duel 209 = .ok (.istore 11, 2) := dk_54 11 (dk_at dksX1_duel_9 2 rfl rfl)
theorem dX1_duel_211 : decode cX1_duel 211 = .ok (.iload 4, 2) := dk_21 4 (dk_at dksX1_duel_9 4 rfl rfl)
theorem dX1_duel_213 : decode cX1_duel 213 = .ok (.iconst 2, 1) := dk_5 (dk_at dksX1_duel_9 6 rfl rfl)
theorem dX1_duel_214 : decode cX1_duel 214 = .ok (.irem, 1) := dk_112 (dk_at dksX1_duel_9 7 rfl rfl)
theorem dX1_duel_215 : decode cX1_duel 215 = .ok (.ifCond .ne 20, 3) := dk_154 0 20 (dk_at dksX1_duel_9 8 rfl rfl)
theorem dX1_duel_218 : decode cX1_duel 218 = .ok (.iload 11, 2) := dk_21 11 (dk_at dksX1_duel_9 11 rfl rfl)
theorem dX1_duel_220 : decode cX1_duel 220 = .ok (.iload 9, 2) := dk_21 9 (dk_at dksX1_duel_9 13 rfl rfl)
theorem dX1_duel_222 : decode cX1_duel 222 = .ok (.if_icmp .le 8, 3) := dk_164 0 8 (dk_at dksX1_duel_9 15 rfl rfl)
theorem dX1_duel_225 : decode cX1_duel 225 = .ok (.iload 11, 2) := dk_21 11 (dk_at dksX1_duel_9 18 rfl rfl)
theorem dX1_duel_227 : decode cX1_duel 227 = .ok (.goto 22, 3) := dk_167 0 22 (dk_at dksX1_duel_9 20 rfl rfl)
theorem dX1_duel_230 : decode cX1_duel 230 = .ok (.iload 9, 2) := dk_21 9 (dk_at dksX1_duel_10 0 rfl rfl)
theorem dX1_duel_232 : decode cX1_duel 232 = .ok (.goto 17, 3) := dk_167 0 17 (dk_at dksX1_duel_10 2 rfl rfl)
theorem dX1_duel_235 : decode cX1_duel 235 = .ok (.iload 11, 2) := dk_21 11 (dk_at dksX1_duel_10 5 rfl rfl)
theorem dX1_duel_237 : decode cX1_duel 237 = .ok (.iload 9, 2) := dk_21 9 (dk_at dksX1_duel_10 7 rfl rfl)
theorem dX1_duel_239 : decode cX1_duel 239 = .ok (.if_icmp .ge 8, 3) := dk_162 0 8 (dk_at dksX1_duel_10 9 rfl rfl)
theorem dX1_duel_242 : decode cX1_duel 242 = .ok (.iload 11, 2) := dk_21 11 (dk_at dksX1_duel_10 12 rfl rfl)
theorem dX1_duel_244 : decode cX1_duel 244 = .ok (.goto 5, 3) := dk_167 0 5 (dk_at dksX1_duel_10 14 rfl rfl)
theorem dX1_duel_247 : decode cX1_duel 247 = .ok (.iload 9, 2) := dk_21 9 (dk_at dksX1_duel_10 17 rfl rfl)
theorem dX1_duel_249 : decode cX1_duel 249 = .ok (.istore 9, 2) := dk_54 9 (dk_at dksX1_duel_10 19 rfl rfl)
theorem dX1_duel_251 : decode cX1_duel 251 = .ok (.iinc 10 1, 3) := dk_132 10 1 (dk_at dksX1_duel_10 21 rfl rfl)
theorem dX1_duel_254 : decode cX1_duel 254 = .ok (.goto (-95), 3) := dk_167 255 161 (dk_at dksX1_duel_11 0 rfl rfl)
theorem dX1_duel_257 : decode cX1_duel 257 = .ok (.aload_n 0, 1) := dk_42 (dk_at dksX1_duel_11 3 rfl rfl)
theorem dX1_duel_258 : decode cX1_duel 258 = .ok (.getfield 47, 3) := dk_180 0 47 (dk_at dksX1_duel_11 4 rfl rfl)
theorem dX1_duel_261 : decode cX1_duel 261 = .ok (.iload 7, 2) := dk_21 7 (dk_at dksX1_duel_11 7 rfl rfl)
theorem dX1_duel_263 : decode cX1_duel 263 = .ok (.iload 9, 2) := dk_21 9 (dk_at dksX1_duel_11 9 rfl rfl)
theorem dX1_duel_265 : decode cX1_duel 265 = .ok (.iastore, 1) := dk_79 (dk_at dksX1_duel_11 11 rfl rfl)
theorem dX1_duel_266 : decode cX1_duel 266 = .ok (.iinc 7 1, 3) := dk_132 7 1 (dk_at dksX1_duel_11 12 rfl rfl)
theorem dX1_duel_269 : decode cX1_duel 269 = .ok (.goto (-151), 3) := dk_167 255 105 (dk_at dksX1_duel_11 15 rfl rfl)
theorem dX1_duel_272 : decode cX1_duel 272 = .ok (.iinc 4 (-1), 3) := dk_132 4 255 (dk_at dksX1_duel_11 18 rfl rfl)
theorem dX1_duel_275 : decode cX1_duel 275 = .ok (.goto (-194), 3) := dk_167 255 62 (dk_at dksX1_duel_11 21 rfl rfl)
theorem dX1_duel_278 : decode cX1_duel 278 = .ok (.aload_n 0, 1) := dk_42 (dk_at dksX1_duel_12 0 rfl rfl)
theorem dX1_duel_279 : decode cX1_duel 279 = .ok (.aload_n 0, 1) := dk_42 (dk_at dksX1_duel_12 1 rfl rfl)
theorem dX1_duel_280 : decode cX1_duel 280 = .ok (.getfield 47, 3) := dk_180 0 47 (dk_at dksX1_duel_12 2 rfl rfl)
theorem dX1_duel_283 : decode cX1_duel 283 = .ok (.iconst 0, 1) := dk_3 (dk_at dksX1_duel_12 5 rfl rfl)
theorem dX1_duel_284 : decode cX1_duel 284 = .ok (.iaload, 1) := dk_46 (dk_at dksX1_duel_12 6 rfl rfl)
theorem dX1_duel_285 : decode cX1_duel 285 = .ok (.putfield 54, 3) := dk_181 0 54 (dk_at dksX1_duel_12 7 rfl rfl)
theorem dX1_duel_288 : decode cX1_duel 288 = .ok (.iconst 1, 1) := dk_4 (dk_at dksX1_duel_12 10 rfl rfl)
theorem dX1_duel_289 : decode cX1_duel 289 = .ok (.ireturn, 1) := dk_172 (dk_at dksX1_duel_12 11 rfl rfl)
abbrev cX1_comes : ByteArray := prog_10_method_76_code
def yX1_comes : MethodName := ⟨RX1, "comes", "(IIII)I"⟩
def dkwX1_comes_4 : List UInt8 := [160, 0, 7, 2, 167, 0, 4, 3, 172]
abbrev dktX1_comes_4 : List UInt8 := dkwX1_comes_4 ++ []
def dkwX1_comes_3 : List UInt8 := [17, 12, 212, 3, 182, 0, 156, 54, 5, 21, 5, 27, 160, 0, 7, 4, 167, 0, 14, 21, 5, 28]
abbrev dktX1_comes_3 : List UInt8 := dkwX1_comes_3 ++ dktX1_comes_4
def dkwX1_comes_2 : List UInt8 := [21, 4, 182, 0, 242, 16, 20, 164, 0, 8, 16, 20, 167, 0, 10, 42, 28, 21, 4, 182, 0, 242, 79, 42]
abbrev dktX1_comes_2 : List UInt8 := dkwX1_comes_2 ++ dktX1_comes_3
def dkwX1_comes_1 : List UInt8 := [16, 20, 167, 0, 9, 42, 27, 29, 182, 0, 242, 79, 42, 180, 0, 7, 17, 12, 221, 28, 96, 42, 28]
abbrev dktX1_comes_1 : List UInt8 := dkwX1_comes_1 ++ dktX1_comes_2
def dkwX1_comes_0 : List UInt8 := [42, 182, 0, 196, 42, 180, 0, 7, 17, 12, 221, 27, 96, 42, 27, 29, 182, 0, 242, 16, 20, 164, 0, 8]
abbrev dktX1_comes_0 : List UInt8 := dkwX1_comes_0 ++ dktX1_comes_1
theorem dksX1_comes_0 : cX1_comes.data.toList.drop 0 = dktX1_comes_0 := by decide +kernel
theorem dksX1_comes_1 : cX1_comes.data.toList.drop 24 = dktX1_comes_1 := dk_seg dksX1_comes_0 24 rfl rfl
theorem dksX1_comes_2 : cX1_comes.data.toList.drop 47 = dktX1_comes_2 := dk_seg dksX1_comes_1 23 rfl rfl
theorem dksX1_comes_3 : cX1_comes.data.toList.drop 71 = dktX1_comes_3 := dk_seg dksX1_comes_2 24 rfl rfl
theorem dksX1_comes_4 : cX1_comes.data.toList.drop 93 = dktX1_comes_4 := dk_seg dksX1_comes_3 22 rfl rfl
theorem dX1_comes_0 : decode cX1_comes 0 = .ok (.aload_n 0, 1) := dk_42 (dk_at dksX1_comes_0 0 rfl rfl)
theorem dX1_comes_1 : decode cX1_comes 1 = .ok (.invokevirtual 196, 3) := dk_182 0 196 (dk_at dksX1_comes_0 1 rfl rfl)
theorem dX1_comes_4 : decode cX1_comes 4 = .ok (.aload_n 0, 1) := dk_42 (dk_at dksX1_comes_0 4 rfl rfl)
theorem dX1_comes_5 : decode cX1_comes 5 = .ok (.getfield 7, 3) := dk_180 0 7 (dk_at dksX1_comes_0 5 rfl rfl)
theorem dX1_comes_8 : decode cX1_comes 8 = .ok (.sipush 3293, 3) := dk_17 12 221 (dk_at dksX1_comes_0 8 rfl rfl)
theorem dX1_comes_11 : decode cX1_comes 11 = .ok (.iload_n 1, 1) := dk_27 (dk_at dksX1_comes_0 11 rfl rfl)
theorem dX1_comes_12 : decode cX1_comes 12 = .ok (.iadd, 1) := dk_96 (dk_at dksX1_comes_0 12 rfl rfl)
theorem dX1_comes_13 : decode cX1_comes 13 = .ok (.aload_n 0, 1) := dk_42 (dk_at dksX1_comes_0 13 rfl rfl)
theorem dX1_comes_14 : decode cX1_comes 14 = .ok (.iload_n 1, 1) := dk_27 (dk_at dksX1_comes_0 14 rfl rfl)
theorem dX1_comes_15 : decode cX1_comes 15 = .ok (.iload_n 3, 1) := dk_29 (dk_at dksX1_comes_0 15 rfl rfl)
theorem dX1_comes_16 : decode cX1_comes 16 = .ok (.invokevirtual 242, 3) := dk_182 0 242 (dk_at dksX1_comes_0 16 rfl rfl)
theorem dX1_comes_19 : decode cX1_comes 19 = .ok (.bipush 20, 2) := dk_16 20 (dk_at dksX1_comes_0 19 rfl rfl)
theorem dX1_comes_21 : decode cX1_comes 21 = .ok (.if_icmp .le 8, 3) := dk_164 0 8 (dk_at dksX1_comes_0 21 rfl rfl)
theorem dX1_comes_24 : decode cX1_comes 24 = .ok (.bipush 20, 2) := dk_16 20 (dk_at dksX1_comes_1 0 rfl rfl)
theorem dX1_comes_26 : decode cX1_comes 26 = .ok (.goto 9, 3) := dk_167 0 9 (dk_at dksX1_comes_1 2 rfl rfl)
theorem dX1_comes_29 : decode cX1_comes 29 = .ok (.aload_n 0, 1) := dk_42 (dk_at dksX1_comes_1 5 rfl rfl)
theorem dX1_comes_30 : decode cX1_comes 30 = .ok (.iload_n 1, 1) := dk_27 (dk_at dksX1_comes_1 6 rfl rfl)
theorem dX1_comes_31 : decode cX1_comes 31 = .ok (.iload_n 3, 1) := dk_29 (dk_at dksX1_comes_1 7 rfl rfl)
theorem dX1_comes_32 : decode cX1_comes 32 = .ok (.invokevirtual 242, 3) := dk_182 0 242 (dk_at dksX1_comes_1 8 rfl rfl)
theorem dX1_comes_35 : decode cX1_comes 35 = .ok (.iastore, 1) := dk_79 (dk_at dksX1_comes_1 11 rfl rfl)
theorem dX1_comes_36 : decode cX1_comes 36 = .ok (.aload_n 0, 1) := dk_42 (dk_at dksX1_comes_1 12 rfl rfl)
theorem dX1_comes_37 : decode cX1_comes 37 = .ok (.getfield 7, 3) := dk_180 0 7 (dk_at dksX1_comes_1 13 rfl rfl)
theorem dX1_comes_40 : decode cX1_comes 40 = .ok (.sipush 3293, 3) := dk_17 12 221 (dk_at dksX1_comes_1 16 rfl rfl)
theorem dX1_comes_43 : decode cX1_comes 43 = .ok (.iload_n 2, 1) := dk_28 (dk_at dksX1_comes_1 19 rfl rfl)
theorem dX1_comes_44 : decode cX1_comes 44 = .ok (.iadd, 1) := dk_96 (dk_at dksX1_comes_1 20 rfl rfl)
theorem dX1_comes_45 : decode cX1_comes 45 = .ok (.aload_n 0, 1) := dk_42 (dk_at dksX1_comes_1 21 rfl rfl)
theorem dX1_comes_46 : decode cX1_comes 46 = .ok (.iload_n 2, 1) := dk_28 (dk_at dksX1_comes_1 22 rfl rfl)
theorem dX1_comes_47 : decode cX1_comes 47 = .ok (.iload 4, 2) := dk_21 4 (dk_at dksX1_comes_2 0 rfl rfl)
theorem dX1_comes_49 : decode cX1_comes 49 = .ok (.invokevirtual 242, 3) := dk_182 0 242 (dk_at dksX1_comes_2 2 rfl rfl)
theorem dX1_comes_52 : decode cX1_comes 52 = .ok (.bipush 20, 2) := dk_16 20 (dk_at dksX1_comes_2 5 rfl rfl)
theorem dX1_comes_54 : decode cX1_comes 54 = .ok (.if_icmp .le 8, 3) := dk_164 0 8 (dk_at dksX1_comes_2 7 rfl rfl)
theorem dX1_comes_57 : decode cX1_comes 57 = .ok (.bipush 20, 2) := dk_16 20 (dk_at dksX1_comes_2 10 rfl rfl)
theorem dX1_comes_59 : decode cX1_comes 59 = .ok (.goto 10, 3) := dk_167 0 10 (dk_at dksX1_comes_2 12 rfl rfl)
theorem dX1_comes_62 : decode cX1_comes 62 = .ok (.aload_n 0, 1) := dk_42 (dk_at dksX1_comes_2 15 rfl rfl)
theorem dX1_comes_63 : decode cX1_comes 63 = .ok (.iload_n 2, 1) := dk_28 (dk_at dksX1_comes_2 16 rfl rfl)
theorem dX1_comes_64 : decode cX1_comes 64 = .ok (.iload 4, 2) := dk_21 4 (dk_at dksX1_comes_2 17 rfl rfl)
theorem dX1_comes_66 : decode cX1_comes 66 = .ok (.invokevirtual 242, 3) := dk_182 0 242 (dk_at dksX1_comes_2 19 rfl rfl)
theorem dX1_comes_69 : decode cX1_comes 69 = .ok (.iastore, 1) := dk_79 (dk_at dksX1_comes_2 22 rfl rfl)
theorem dX1_comes_70 : decode cX1_comes 70 = .ok (.aload_n 0, 1) := dk_42 (dk_at dksX1_comes_2 23 rfl rfl)
theorem dX1_comes_71 : decode cX1_comes 71 = .ok (.sipush 3284, 3) := dk_17 12 212 (dk_at dksX1_comes_3 0 rfl rfl)
theorem dX1_comes_74 : decode cX1_comes 74 = .ok (.iconst 0, 1) := dk_3 (dk_at dksX1_comes_3 3 rfl rfl)
theorem dX1_comes_75 : decode cX1_comes 75 = .ok (.invokevirtual 156, 3) := dk_182 0 156 (dk_at dksX1_comes_3 4 rfl rfl)
theorem dX1_comes_78 : decode cX1_comes 78 = .ok (.istore 5, 2) := dk_54 5 (dk_at dksX1_comes_3 7 rfl rfl)
theorem dX1_comes_80 : decode cX1_comes 80 = .ok (.iload 5, 2) := dk_21 5 (dk_at dksX1_comes_3 9 rfl rfl)
theorem dX1_comes_82 : decode cX1_comes 82 = .ok (.iload_n 1, 1) := dk_27 (dk_at dksX1_comes_3 11 rfl rfl)
theorem dX1_comes_83 : decode cX1_comes 83 = .ok (.if_icmp .ne 7, 3) := dk_160 0 7 (dk_at dksX1_comes_3 12 rfl rfl)
theorem dX1_comes_86 : decode cX1_comes 86 = .ok (.iconst 1, 1) := dk_4 (dk_at dksX1_comes_3 15 rfl rfl)
theorem dX1_comes_87 : decode cX1_comes 87 = .ok (.goto 14, 3) := dk_167 0 14 (dk_at dksX1_comes_3 16 rfl rfl)
theorem dX1_comes_90 : decode cX1_comes 90 = .ok (.iload 5, 2) := dk_21 5 (dk_at dksX1_comes_3 19 rfl rfl)
theorem dX1_comes_92 : decode cX1_comes 92 = .ok (.iload_n 2, 1) := dk_28 (dk_at dksX1_comes_3 21 rfl rfl)
theorem dX1_comes_93 : decode cX1_comes 93 = .ok (.if_icmp .ne 7, 3) := dk_160 0 7 (dk_at dksX1_comes_4 0 rfl rfl)
theorem dX1_comes_96 : decode cX1_comes 96 = .ok (.iconst (-1), 1) := dk_2 (dk_at dksX1_comes_4 3 rfl rfl)
theorem dX1_comes_97 : decode cX1_comes 97 = .ok (.goto 4, 3) := dk_167 0 4 (dk_at dksX1_comes_4 4 rfl rfl)
theorem dX1_comes_100 : decode cX1_comes 100 = .ok (.iconst 0, 1) := dk_3 (dk_at dksX1_comes_4 7 rfl rfl)
theorem dX1_comes_101 : decode cX1_comes 101 = .ok (.ireturn, 1) := dk_172 (dk_at dksX1_comes_4 8 rfl rfl)
abbrev cX1_daringRaised : ByteArray := prog_10_method_75_code
def yX1_daringRaised : MethodName := ⟨RX1, "daringRaised", "(II)I"⟩
def dkwX1_daringRaised_0 : List UInt8 := [42, 180, 0, 7, 16, 9, 27, 96, 46, 28, 96, 172]
abbrev dktX1_daringRaised_0 : List UInt8 := dkwX1_daringRaised_0 ++ []
theorem dksX1_daringRaised_0 : cX1_daringRaised.data.toList.drop 0 = dktX1_daringRaised_0 := by decide +kernel
theorem dX1_daringRaised_0 : decode cX1_daringRaised 0 = .ok (.aload_n 0, 1) := dk_42 (dk_at dksX1_daringRaised_0 0 rfl rfl)
theorem dX1_daringRaised_1 : decode cX1_daringRaised 1 = .ok (.getfield 7, 3) := dk_180 0 7 (dk_at dksX1_daringRaised_0 1 rfl rfl)
theorem dX1_daringRaised_4 : decode cX1_daringRaised 4 = .ok (.bipush 9, 2) := dk_16 9 (dk_at dksX1_daringRaised_0 4 rfl rfl)
theorem dX1_daringRaised_6 : decode cX1_daringRaised 6 = .ok (.iload_n 1, 1) := dk_27 (dk_at dksX1_daringRaised_0 6 rfl rfl)
theorem dX1_daringRaised_7 : decode cX1_daringRaised 7 = .ok (.iadd, 1) := dk_96 (dk_at dksX1_daringRaised_0 7 rfl rfl)
theorem dX1_daringRaised_8 : decode cX1_daringRaised 8 = .ok (.iaload, 1) := dk_46 (dk_at dksX1_daringRaised_0 8 rfl rfl)
theorem dX1_daringRaised_9 : decode cX1_daringRaised 9 = .ok (.iload_n 2, 1) := dk_28 (dk_at dksX1_daringRaised_0 9 rfl rfl)
theorem dX1_daringRaised_10 : decode cX1_daringRaised 10 = .ok (.iadd, 1) := dk_96 (dk_at dksX1_daringRaised_0 10 rfl rfl)
theorem dX1_daringRaised_11 : decode cX1_daringRaised 11 = .ok (.ireturn, 1) := dk_172 (dk_at dksX1_daringRaised_0 11 rfl rfl)
abbrev cX1_odds : ByteArray := prog_10_method_80_code
def yX1_odds : MethodName := ⟨RX1, "odds", "(II)I"⟩
def dkwX1_odds_3 : List UInt8 := [22, 8, 97, 55, 5, 132, 7, 1, 167, 255, 206, 42, 33, 22, 5, 182, 0, 254, 4, 172]
abbrev dktX1_odds_3 : List UInt8 := dkwX1_odds_3 ++ []
def dkwX1_odds_2 : List UInt8 := [55, 8, 33, 42, 3, 21, 7, 182, 0, 156, 27, 160, 0, 8, 22, 8, 167, 0, 4, 9, 97, 66, 22, 5]
abbrev dktX1_odds_2 : List UInt8 := dkwX1_odds_2 ++ dktX1_odds_3
def dkwX1_odds_1 : List UInt8 := [9, 55, 5, 3, 54, 7, 21, 7, 4, 42, 180, 0, 136, 120, 162, 0, 45, 42, 21, 7, 28, 182, 0, 250]
abbrev dktX1_odds_1 : List UInt8 := dkwX1_odds_1 ++ dktX1_odds_2
def dkwX1_odds_0 : List UInt8 := [42, 27, 182, 0, 162, 153, 0, 15, 28, 133, 9, 20, 0, 248, 184, 0, 59, 154, 0, 5, 2, 172, 9, 66]
abbrev dktX1_odds_0 : List UInt8 := dkwX1_odds_0 ++ dktX1_odds_1
theorem dksX1_odds_0 : cX1_odds.data.toList.drop 0 = dktX1_odds_0 := by decide +kernel
theorem dksX1_odds_1 : cX1_odds.data.toList.drop 24 = dktX1_odds_1 := dk_seg dksX1_odds_0 24 rfl rfl
theorem dksX1_odds_2 : cX1_odds.data.toList.drop 48 = dktX1_odds_2 := dk_seg dksX1_odds_1 24 rfl rfl
theorem dksX1_odds_3 : cX1_odds.data.toList.drop 72 = dktX1_odds_3 := dk_seg dksX1_odds_2 24 rfl rfl
theorem dX1_odds_0 : decode cX1_odds 0 = .ok (.aload_n 0, 1) := dk_42 (dk_at dksX1_odds_0 0 rfl rfl)
theorem dX1_odds_1 : decode cX1_odds 1 = .ok (.iload_n 1, 1) := dk_27 (dk_at dksX1_odds_0 1 rfl rfl)
theorem dX1_odds_2 : decode cX1_odds 2 = .ok (.invokevirtual 162, 3) := dk_182 0 162 (dk_at dksX1_odds_0 2 rfl rfl)
theorem dX1_odds_5 : decode cX1_odds 5 = .ok (.ifCond .eq 15, 3) := dk_153 0 15 (dk_at dksX1_odds_0 5 rfl rfl)
theorem dX1_odds_8 : decode cX1_odds 8 = .ok (.iload_n 2, 1) := dk_28 (dk_at dksX1_odds_0 8 rfl rfl)
theorem dX1_odds_9 : decode cX1_odds 9 = .ok (.i2l, 1) := dk_133 (dk_at dksX1_odds_0 9 rfl rfl)
theorem dX1_odds_10 : decode cX1_odds 10 = .ok (.lconst 0, 1) := dk_9 (dk_at dksX1_odds_0 10 rfl rfl)
theorem dX1_odds_11 : decode cX1_odds 11 = .ok (.ldc2_w 248, 3) := dk_20 0 248 (dk_at dksX1_odds_0 11 rfl rfl)
theorem dX1_odds_14 : decode cX1_odds 14 = .ok (.invokestatic 59, 3) := dk_184 0 59 (dk_at dksX1_odds_0 14 rfl rfl)
theorem dX1_odds_17 : decode cX1_odds 17 = .ok (.ifCond .ne 5, 3) := dk_154 0 5 (dk_at dksX1_odds_0 17 rfl rfl)
theorem dX1_odds_20 : decode cX1_odds 20 = .ok (.iconst (-1), 1) := dk_2 (dk_at dksX1_odds_0 20 rfl rfl)
theorem dX1_odds_21 : decode cX1_odds 21 = .ok (.ireturn, 1) := dk_172 (dk_at dksX1_odds_0 21 rfl rfl)
theorem dX1_odds_22 : decode cX1_odds 22 = .ok (.lconst 0, 1) := dk_9 (dk_at dksX1_odds_0 22 rfl rfl)
theorem dX1_odds_23 : decode cX1_odds 23 = .ok (.lstore_n 3, 1) := dk_66 (dk_at dksX1_odds_0 23 rfl rfl)
theorem dX1_odds_24 : decode cX1_odds 24 = .ok (.lconst 0, 1) := dk_9 (dk_at dksX1_odds_1 0 rfl rfl)
theorem dX1_odds_25 : decode cX1_odds 25 = .ok (.lstore 5, 2) := dk_55 5 (dk_at dksX1_odds_1 1 rfl rfl)
theorem dX1_odds_27 : decode cX1_odds 27 = .ok (.iconst 0, 1) := dk_3 (dk_at dksX1_odds_1 3 rfl rfl)
theorem dX1_odds_28 : decode cX1_odds 28 = .ok (.istore 7, 2) := dk_54 7 (dk_at dksX1_odds_1 4 rfl rfl)
theorem dX1_odds_30 : decode cX1_odds 30 = .ok (.iload 7, 2) := dk_21 7 (dk_at dksX1_odds_1 6 rfl rfl)
theorem dX1_odds_32 : decode cX1_odds 32 = .ok (.iconst 1, 1) := dk_4 (dk_at dksX1_odds_1 8 rfl rfl)
theorem dX1_odds_33 : decode cX1_odds 33 = .ok (.aload_n 0, 1) := dk_42 (dk_at dksX1_odds_1 9 rfl rfl)
theorem dX1_odds_34 : decode cX1_odds 34 = .ok (.getfield 136, 3) := dk_180 0 136 (dk_at dksX1_odds_1 10 rfl rfl)
theorem dX1_odds_37 : decode cX1_odds 37 = .ok (.ishl, 1) := dk_120 (dk_at dksX1_odds_1 13 rfl rfl)
theorem dX1_odds_38 : decode cX1_odds 38 = .ok (.if_icmp .ge 45, 3) := dk_162 0 45 (dk_at dksX1_odds_1 14 rfl rfl)
theorem dX1_odds_41 : decode cX1_odds 41 = .ok (.aload_n 0, 1) := dk_42 (dk_at dksX1_odds_1 17 rfl rfl)
theorem dX1_odds_42 : decode cX1_odds 42 = .ok (.iload 7, 2) := dk_21 7 (dk_at dksX1_odds_1 18 rfl rfl)
theorem dX1_odds_44 : decode cX1_odds 44 = .ok (.iload_n 2, 1) := dk_28 (dk_at dksX1_odds_1 20 rfl rfl)
theorem dX1_odds_45 : decode cX1_odds 45 = .ok (.invokevirtual 250, 3) := dk_182 0 250 (dk_at dksX1_odds_1 21 rfl rfl)
theorem dX1_odds_48 : decode cX1_odds 48 = .ok (.lstore 8, 2) := dk_55 8 (dk_at dksX1_odds_2 0 rfl rfl)
theorem dX1_odds_50 : decode cX1_odds 50 = .ok (.lload_n 3, 1) := dk_33 (dk_at dksX1_odds_2 2 rfl rfl)
theorem dX1_odds_51 : decode cX1_odds 51 = .ok (.aload_n 0, 1) := dk_42 (dk_at dksX1_odds_2 3 rfl rfl)
theorem dX1_odds_52 : decode cX1_odds 52 = .ok (.iconst 0, 1) := dk_3 (dk_at dksX1_odds_2 4 rfl rfl)
theorem dX1_odds_53 : decode cX1_odds 53 = .ok (.iload 7, 2) := dk_21 7 (dk_at dksX1_odds_2 5 rfl rfl)
theorem dX1_odds_55 : decode cX1_odds 55 = .ok (.invokevirtual 156, 3) := dk_182 0 156 (dk_at dksX1_odds_2 7 rfl rfl)
theorem dX1_odds_58 : decode cX1_odds 58 = .ok (.iload_n 1, 1) := dk_27 (dk_at dksX1_odds_2 10 rfl rfl)
theorem dX1_odds_59 : decode cX1_odds 59 = .ok (.if_icmp .ne 8, 3) := dk_160 0 8 (dk_at dksX1_odds_2 11 rfl rfl)
theorem dX1_odds_62 : decode cX1_odds 62 = .ok (.lload 8, 2) := dk_22 8 (dk_at dksX1_odds_2 14 rfl rfl)
theorem dX1_odds_64 : decode cX1_odds 64 = .ok (.goto 4, 3) := dk_167 0 4 (dk_at dksX1_odds_2 16 rfl rfl)
theorem dX1_odds_67 : decode cX1_odds 67 = .ok (.lconst 0, 1) := dk_9 (dk_at dksX1_odds_2 19 rfl rfl)
theorem dX1_odds_68 : decode cX1_odds 68 = .ok (.ladd, 1) := dk_97 (dk_at dksX1_odds_2 20 rfl rfl)
theorem dX1_odds_69 : decode cX1_odds 69 = .ok (.lstore_n 3, 1) := dk_66 (dk_at dksX1_odds_2 21 rfl rfl)
theorem dX1_odds_70 : decode cX1_odds 70 = .ok (.lload 5, 2) := dk_22 5 (dk_at dksX1_odds_2 22 rfl rfl)
theorem dX1_odds_72 : decode cX1_odds 72 = .ok (.lload 8, 2) := dk_22 8 (dk_at dksX1_odds_3 0 rfl rfl)
theorem dX1_odds_74 : decode cX1_odds 74 = .ok (.ladd, 1) := dk_97 (dk_at dksX1_odds_3 2 rfl rfl)
theorem dX1_odds_75 : decode cX1_odds 75 = .ok (.lstore 5, 2) := dk_55 5 (dk_at dksX1_odds_3 3 rfl rfl)
theorem dX1_odds_77 : decode cX1_odds 77 = .ok (.iinc 7 1, 3) := dk_132 7 1 (dk_at dksX1_odds_3 5 rfl rfl)
theorem dX1_odds_80 : decode cX1_odds 80 = .ok (.goto (-50), 3) := dk_167 255 206 (dk_at dksX1_odds_3 8 rfl rfl)
theorem dX1_odds_83 : decode cX1_odds 83 = .ok (.aload_n 0, 1) := dk_42 (dk_at dksX1_odds_3 11 rfl rfl)
theorem dX1_odds_84 : decode cX1_odds 84 = .ok (.lload_n 3, 1) := dk_33 (dk_at dksX1_odds_3 12 rfl rfl)
theorem dX1_odds_85 : decode cX1_odds 85 = .ok (.lload 5, 2) := dk_22 5 (dk_at dksX1_odds_3 13 rfl rfl)
theorem dX1_odds_87 : decode cX1_odds 87 = .ok (.invokevirtual 254, 3) := dk_182 0 254 (dk_at dksX1_odds_3 15 rfl rfl)
theorem dX1_odds_90 : decode cX1_odds 90 = .ok (.iconst 1, 1) := dk_4 (dk_at dksX1_odds_3 18 rfl rfl)
theorem dX1_odds_91 : decode cX1_odds 91 = .ok (.ireturn, 1) := dk_172 (dk_at dksX1_odds_3 19 rfl rfl)
abbrev cX1_chancesOf : ByteArray := prog_10_method_79_code
def yX1_chancesOf : MethodName := ⟨RX1, "chancesOf", "(II)J"⟩
def dkwX1_chancesOf_1 : List UInt8 := [28, 133, 167, 0, 8, 16, 12, 28, 100, 133, 105, 66, 132, 5, 1, 167, 255, 222, 33, 173]
abbrev dktX1_chancesOf_1 : List UInt8 := dkwX1_chancesOf_1 ++ []
def dkwX1_chancesOf_0 : List UInt8 := [10, 66, 3, 54, 5, 21, 5, 42, 180, 0, 136, 162, 0, 31, 33, 27, 21, 5, 184, 0, 149, 153, 0, 8]
abbrev dktX1_chancesOf_0 : List UInt8 := dkwX1_chancesOf_0 ++ dktX1_chancesOf_1
theorem dksX1_chancesOf_0 : cX1_chancesOf.data.toList.drop 0 = dktX1_chancesOf_0 := by decide +kernel
theorem dksX1_chancesOf_1 : cX1_chancesOf.data.toList.drop 24 = dktX1_chancesOf_1 := dk_seg dksX1_chancesOf_0 24 rfl rfl
theorem dX1_chancesOf_0 : decode cX1_chancesOf 0 = .ok (.lconst 1, 1) := dk_10 (dk_at dksX1_chancesOf_0 0 rfl rfl)
theorem dX1_chancesOf_1 : decode cX1_chancesOf 1 = .ok (.lstore_n 3, 1) := dk_66 (dk_at dksX1_chancesOf_0 1 rfl rfl)
theorem dX1_chancesOf_2 : decode cX1_chancesOf 2 = .ok (.iconst 0, 1) := dk_3 (dk_at dksX1_chancesOf_0 2 rfl rfl)
theorem dX1_chancesOf_3 : decode cX1_chancesOf 3 = .ok (.istore 5, 2) := dk_54 5 (dk_at dksX1_chancesOf_0 3 rfl rfl)
theorem dX1_chancesOf_5 : decode cX1_chancesOf 5 = .ok (.iload 5, 2) := dk_21 5 (dk_at dksX1_chancesOf_0 5 rfl rfl)
theorem dX1_chancesOf_7 : decode cX1_chancesOf 7 = .ok (.aload_n 0, 1) := dk_42 (dk_at dksX1_chancesOf_0 7 rfl rfl)
theorem dX1_chancesOf_8 : decode cX1_chancesOf 8 = .ok (.getfield 136, 3) := dk_180 0 136 (dk_at dksX1_chancesOf_0 8 rfl rfl)
theorem dX1_chancesOf_11 : decode cX1_chancesOf 11 = .ok (.if_icmp .ge 31, 3) := dk_162 0 31 (dk_at dksX1_chancesOf_0 11 rfl rfl)
theorem dX1_chancesOf_14 : decode cX1_chancesOf 14 = .ok (.lload_n 3, 1) := dk_33 (dk_at dksX1_chancesOf_0 14 rfl rfl)
theorem dX1_chancesOf_15 : decode cX1_chancesOf 15 = .ok (.iload_n 1, 1) := dk_27 (dk_at dksX1_chancesOf_0 15 rfl rfl)
theorem dX1_chancesOf_16 : decode cX1_chancesOf 16 = .ok (.iload 5, 2) := dk_21 5 (dk_at dksX1_chancesOf_0 16 rfl rfl)
theorem dX1_chancesOf_18 : decode cX1_chancesOf 18 = .ok (.invokestatic 149, 3) := dk_184 0 149 (dk_at dksX1_chancesOf_0 18 rfl rfl)
theorem dX1_chancesOf_21 : decode cX1_chancesOf 21 = .ok (.ifCond .eq 8, 3) := dk_153 0 8 (dk_at dksX1_chancesOf_0 21 rfl rfl)
theorem dX1_chancesOf_24 : decode cX1_chancesOf 24 = .ok (.iload_n 2, 1) := dk_28 (dk_at dksX1_chancesOf_1 0 rfl rfl)
theorem dX1_chancesOf_25 : decode cX1_chancesOf 25 = .ok (.i2l, 1) := dk_133 (dk_at dksX1_chancesOf_1 1 rfl rfl)
theorem dX1_chancesOf_26 : decode cX1_chancesOf 26 = .ok (.goto 8, 3) := dk_167 0 8 (dk_at dksX1_chancesOf_1 2 rfl rfl)
theorem dX1_chancesOf_29 : decode cX1_chancesOf 29 = .ok (.bipush 12, 2) := dk_16 12 (dk_at dksX1_chancesOf_1 5 rfl rfl)
theorem dX1_chancesOf_31 : decode cX1_chancesOf 31 = .ok (.iload_n 2, 1) := dk_28 (dk_at dksX1_chancesOf_1 7 rfl rfl)
theorem dX1_chancesOf_32 : decode cX1_chancesOf 32 = .ok (.isub, 1) := dk_100 (dk_at dksX1_chancesOf_1 8 rfl rfl)
theorem dX1_chancesOf_33 : decode cX1_chancesOf 33 = .ok (.i2l, 1) := dk_133 (dk_at dksX1_chancesOf_1 9 rfl rfl)
theorem dX1_chancesOf_34 : decode cX1_chancesOf 34 = .ok (.lmul, 1) := dk_105 (dk_at dksX1_chancesOf_1 10 rfl rfl)
theorem dX1_chancesOf_35 : decode cX1_chancesOf 35 = .ok (.lstore_n 3, 1) := dk_66 (dk_at dksX1_chancesOf_1 11 rfl rfl)
theorem dX1_chancesOf_36 : decode cX1_chancesOf 36 = .ok (.iinc 5 1, 3) := dk_132 5 1 (dk_at dksX1_chancesOf_1 12 rfl rfl)
theorem dX1_chancesOf_39 : decode cX1_chancesOf 39 = .ok (.goto (-34), 3) := dk_167 255 222 (dk_at dksX1_chancesOf_1 15 rfl rfl)
theorem dX1_chancesOf_42 : decode cX1_chancesOf 42 = .ok (.lload_n 3, 1) := dk_33 (dk_at dksX1_chancesOf_1 18 rfl rfl)
theorem dX1_chancesOf_43 : decode cX1_chancesOf 43 = .ok (.lreturn, 1) := dk_173 (dk_at dksX1_chancesOf_1 19 rfl rfl)
abbrev cX1_tellParts : ByteArray := prog_10_method_78_code
def yX1_tellParts : MethodName := ⟨RX1, "tellParts", "(JJ)V"⟩
def dkwX1_tellParts_1 : List UInt8 := [22, 9, 55, 7, 167, 255, 234, 42, 31, 22, 5, 109, 181, 0, 239, 42, 33, 22, 5, 109, 181, 0, 28, 177]
abbrev dktX1_tellParts_1 : List UInt8 := dkwX1_tellParts_1 ++ []
def dkwX1_tellParts_0 : List UInt8 := [31, 55, 5, 33, 55, 7, 22, 7, 9, 148, 153, 0, 21, 22, 5, 22, 7, 113, 55, 9, 22, 7, 55, 5]
abbrev dktX1_tellParts_0 : List UInt8 := dkwX1_tellParts_0 ++ dktX1_tellParts_1
theorem dksX1_tellParts_0 : cX1_tellParts.data.toList.drop 0 = dktX1_tellParts_0 := by decide +kernel
theorem dksX1_tellParts_1 : cX1_tellParts.data.toList.drop 24 = dktX1_tellParts_1 := dk_seg dksX1_tellParts_0 24 rfl rfl
theorem dX1_tellParts_0 : decode cX1_tellParts 0 = .ok (.lload_n 1, 1) := dk_31 (dk_at dksX1_tellParts_0 0 rfl rfl)
theorem dX1_tellParts_1 : decode cX1_tellParts 1 = .ok (.lstore 5, 2) := dk_55 5 (dk_at dksX1_tellParts_0 1 rfl rfl)
theorem dX1_tellParts_3 : decode cX1_tellParts 3 = .ok (.lload_n 3, 1) := dk_33 (dk_at dksX1_tellParts_0 3 rfl rfl)
theorem dX1_tellParts_4 : decode cX1_tellParts 4 = .ok (.lstore 7, 2) := dk_55 7 (dk_at dksX1_tellParts_0 4 rfl rfl)
theorem dX1_tellParts_6 : decode cX1_tellParts 6 = .ok (.lload 7, 2) := dk_22 7 (dk_at dksX1_tellParts_0 6 rfl rfl)
theorem dX1_tellParts_8 : decode cX1_tellParts 8 = .ok (.lconst 0, 1) := dk_9 (dk_at dksX1_tellParts_0 8 rfl rfl)
theorem dX1_tellParts_9 : decode cX1_tellParts 9 = .ok (.lcmp, 1) := dk_148 (dk_at dksX1_tellParts_0 9 rfl rfl)
theorem dX1_tellParts_10 : decode cX1_tellParts 10 = .ok (.ifCond .eq 21, 3) := dk_153 0 21 (dk_at dksX1_tellParts_0 10 rfl rfl)
theorem dX1_tellParts_13 : decode cX1_tellParts 13 = .ok (.lload 5, 2) := dk_22 5 (dk_at dksX1_tellParts_0 13 rfl rfl)
theorem dX1_tellParts_15 : decode cX1_tellParts 15 = .ok (.lload 7, 2) := dk_22 7 (dk_at dksX1_tellParts_0 15 rfl rfl)
theorem dX1_tellParts_17 : decode cX1_tellParts 17 = .ok (.lrem, 1) := dk_113 (dk_at dksX1_tellParts_0 17 rfl rfl)
theorem dX1_tellParts_18 : decode cX1_tellParts 18 = .ok (.lstore 9, 2) := dk_55 9 (dk_at dksX1_tellParts_0 18 rfl rfl)
theorem dX1_tellParts_20 : decode cX1_tellParts 20 = .ok (.lload 7, 2) := dk_22 7 (dk_at dksX1_tellParts_0 20 rfl rfl)
theorem dX1_tellParts_22 : decode cX1_tellParts 22 = .ok (.lstore 5, 2) := dk_55 5 (dk_at dksX1_tellParts_0 22 rfl rfl)
theorem dX1_tellParts_24 : decode cX1_tellParts 24 = .ok (.lload 9, 2) := dk_22 9 (dk_at dksX1_tellParts_1 0 rfl rfl)
theorem dX1_tellParts_26 : decode cX1_tellParts 26 = .ok (.lstore 7, 2) := dk_55 7 (dk_at dksX1_tellParts_1 2 rfl rfl)
theorem dX1_tellParts_28 : decode cX1_tellParts 28 = .ok (.goto (-22), 3) := dk_167 255 234 (dk_at dksX1_tellParts_1 4 rfl rfl)
theorem dX1_tellParts_31 : decode cX1_tellParts 31 = .ok (.aload_n 0, 1) := dk_42 (dk_at dksX1_tellParts_1 7 rfl rfl)
theorem dX1_tellParts_32 : decode cX1_tellParts 32 = .ok (.lload_n 1, 1) := dk_31 (dk_at dksX1_tellParts_1 8 rfl rfl)
theorem dX1_tellParts_33 : decode cX1_tellParts 33 = .ok (.lload 5, 2) := dk_22 5 (dk_at dksX1_tellParts_1 9 rfl rfl)
theorem dX1_tellParts_35 : decode cX1_tellParts 35 = .ok (.ldiv, 1) := dk_109 (dk_at dksX1_tellParts_1 11 rfl rfl)
theorem dX1_tellParts_36 : decode cX1_tellParts 36 = .ok (.putfield 239, 3) := dk_181 0 239 (dk_at dksX1_tellParts_1 12 rfl rfl)
theorem dX1_tellParts_39 : decode cX1_tellParts 39 = .ok (.aload_n 0, 1) := dk_42 (dk_at dksX1_tellParts_1 15 rfl rfl)
theorem dX1_tellParts_40 : decode cX1_tellParts 40 = .ok (.lload_n 3, 1) := dk_33 (dk_at dksX1_tellParts_1 16 rfl rfl)
theorem dX1_tellParts_41 : decode cX1_tellParts 41 = .ok (.lload 5, 2) := dk_22 5 (dk_at dksX1_tellParts_1 17 rfl rfl)
theorem dX1_tellParts_43 : decode cX1_tellParts 43 = .ok (.ldiv, 1) := dk_109 (dk_at dksX1_tellParts_1 19 rfl rfl)
theorem dX1_tellParts_44 : decode cX1_tellParts 44 = .ok (.putfield 28, 3) := dk_181 0 28 (dk_at dksX1_tellParts_1 20 rfl rfl)
theorem dX1_tellParts_47 : decode cX1_tellParts 47 = .ok (.return_, 1) := dk_177 (dk_at dksX1_tellParts_1 23 rfl rfl)
abbrev cX1_mid : ByteArray := prog_10_method_82_code
def yX1_mid : MethodName := ⟨RX1, "mid", "(II)I"⟩
def dkwX1_mid_2 : List UInt8 := [180, 1, 2, 182, 0, 254, 4, 172]
abbrev dktX1_mid_2 : List UInt8 := dkwX1_mid_2 ++ []
def dkwX1_mid_1 : List UInt8 := [2, 172, 42, 180, 0, 136, 154, 0, 6, 16, 252, 172, 42, 27, 28, 182, 1, 5, 66, 42, 33, 42]
abbrev dktX1_mid_1 : List UInt8 := dkwX1_mid_1 ++ dktX1_mid_2
def dkwX1_mid_0 : List UInt8 := [27, 133, 9, 20, 0, 182, 184, 0, 59, 153, 0, 15, 28, 133, 9, 20, 0, 248, 184, 0, 59, 154, 0, 5]
abbrev dktX1_mid_0 : List UInt8 := dkwX1_mid_0 ++ dktX1_mid_1
theorem dksX1_mid_0 : cX1_mid.data.toList.drop 0 = dktX1_mid_0 := by decide +kernel
theorem dksX1_mid_1 : cX1_mid.data.toList.drop 24 = dktX1_mid_1 := dk_seg dksX1_mid_0 24 rfl rfl
theorem dksX1_mid_2 : cX1_mid.data.toList.drop 46 = dktX1_mid_2 := dk_seg dksX1_mid_1 22 rfl rfl
theorem dX1_mid_0 : decode cX1_mid 0 = .ok (.iload_n 1, 1) := dk_27 (dk_at dksX1_mid_0 0 rfl rfl)
theorem dX1_mid_1 : decode cX1_mid 1 = .ok (.i2l, 1) := dk_133 (dk_at dksX1_mid_0 1 rfl rfl)
theorem dX1_mid_2 : decode cX1_mid 2 = .ok (.lconst 0, 1) := dk_9 (dk_at dksX1_mid_0 2 rfl rfl)
theorem dX1_mid_3 : decode cX1_mid 3 = .ok (.ldc2_w 182, 3) := dk_20 0 182 (dk_at dksX1_mid_0 3 rfl rfl)
theorem dX1_mid_6 : decode cX1_mid 6 = .ok (.invokestatic 59, 3) := dk_184 0 59 (dk_at dksX1_mid_0 6 rfl rfl)
theorem dX1_mid_9 : decode cX1_mid 9 = .ok (.ifCond .eq 15, 3) := dk_153 0 15 (dk_at dksX1_mid_0 9 rfl rfl)
theorem dX1_mid_12 : decode cX1_mid 12 = .ok (.iload_n 2, 1) := dk_28 (dk_at dksX1_mid_0 12 rfl rfl)
theorem dX1_mid_13 : decode cX1_mid 13 = .ok (.i2l, 1) := dk_133 (dk_at dksX1_mid_0 13 rfl rfl)
theorem dX1_mid_14 : decode cX1_mid 14 = .ok (.lconst 0, 1) := dk_9 (dk_at dksX1_mid_0 14 rfl rfl)
theorem dX1_mid_15 : decode cX1_mid 15 = .ok (.ldc2_w 248, 3) := dk_20 0 248 (dk_at dksX1_mid_0 15 rfl rfl)
theorem dX1_mid_18 : decode cX1_mid 18 = .ok (.invokestatic 59, 3) := dk_184 0 59 (dk_at dksX1_mid_0 18 rfl rfl)
theorem dX1_mid_21 : decode cX1_mid 21 = .ok (.ifCond .ne 5, 3) := dk_154 0 5 (dk_at dksX1_mid_0 21 rfl rfl)
theorem dX1_mid_24 : decode cX1_mid 24 = .ok (.iconst (-1), 1) := dk_2 (dk_at dksX1_mid_1 0 rfl rfl)
theorem dX1_mid_25 : decode cX1_mid 25 = .ok (.ireturn, 1) := dk_172 (dk_at dksX1_mid_1 1 rfl rfl)
theorem dX1_mid_26 : decode cX1_mid 26 = .ok (.aload_n 0, 1) := dk_42 (dk_at dksX1_mid_1 2 rfl rfl)
theorem dX1_mid_27 : decode cX1_mid 27 = .ok (.getfield 136, 3) := dk_180 0 136 (dk_at dksX1_mid_1 3 rfl rfl)
theorem dX1_mid_30 : decode cX1_mid 30 = .ok (.ifCond .ne 6, 3) := dk_154 0 6 (dk_at dksX1_mid_1 6 rfl rfl)
theorem dX1_mid_33 : decode cX1_mid 33 = .ok (.bipush (-4), 2) := dk_16 252 (dk_at dksX1_mid_1 9 rfl rfl)
theorem dX1_mid_35 : decode cX1_mid 35 = .ok (.ireturn, 1) := dk_172 (dk_at dksX1_mid_1 11 rfl rfl)
theorem dX1_mid_36 : decode cX1_mid 36 = .ok (.aload_n 0, 1) := dk_42 (dk_at dksX1_mid_1 12 rfl rfl)
theorem dX1_mid_37 : decode cX1_mid 37 = .ok (.iload_n 1, 1) := dk_27 (dk_at dksX1_mid_1 13 rfl rfl)
theorem dX1_mid_38 : decode cX1_mid 38 = .ok (.iload_n 2, 1) := dk_28 (dk_at dksX1_mid_1 14 rfl rfl)
theorem dX1_mid_39 : decode cX1_mid 39 = .ok (.invokevirtual 261, 3) := dk_182 1 5 (dk_at dksX1_mid_1 15 rfl rfl)
theorem dX1_mid_42 : decode cX1_mid 42 = .ok (.lstore_n 3, 1) := dk_66 (dk_at dksX1_mid_1 18 rfl rfl)
theorem dX1_mid_43 : decode cX1_mid 43 = .ok (.aload_n 0, 1) := dk_42 (dk_at dksX1_mid_1 19 rfl rfl)
theorem dX1_mid_44 : decode cX1_mid 44 = .ok (.lload_n 3, 1) := dk_33 (dk_at dksX1_mid_1 20 rfl rfl)
theorem dX1_mid_45 : decode cX1_mid 45 = .ok (.aload_n 0, 1) := dk_42 (dk_at dksX1_mid_1 21 rfl rfl)
theorem dX1_mid_46 : decode cX1_mid 46 = .ok (.getfield 258, 3) := dk_180 1 2 (dk_at dksX1_mid_2 0 rfl rfl)
theorem dX1_mid_49 : decode cX1_mid 49 = .ok (.invokevirtual 254, 3) := dk_182 0 254 (dk_at dksX1_mid_2 3 rfl rfl)
theorem dX1_mid_52 : decode cX1_mid 52 = .ok (.iconst 1, 1) := dk_4 (dk_at dksX1_mid_2 6 rfl rfl)
theorem dX1_mid_53 : decode cX1_mid 53 = .ok (.ireturn, 1) := dk_172 (dk_at dksX1_mid_2 7 rfl rfl)
abbrev cX1_farAll : ByteArray := prog_10_method_81_code
def yX1_farAll : MethodName := ⟨RX1, "farAll", "(II)J"⟩
def dkwX1_farAll_3 : List UInt8 := [133, 105, 97, 66, 42, 89, 180, 1, 2, 22, 7, 97, 181, 1, 2, 132, 5, 1, 167, 255, 177, 33, 173]
abbrev dktX1_farAll_3 : List UInt8 := dkwX1_farAll_3 ++ []
def dkwX1_farAll_2 : List UInt8 := [160, 0, 12, 42, 180, 0, 7, 5, 46, 167, 0, 12, 42, 180, 0, 7, 6, 21, 6, 96, 46, 184, 0, 139]
abbrev dktX1_farAll_2 : List UInt8 := dkwX1_farAll_2 ++ dktX1_farAll_3
def dkwX1_farAll_1 : List UInt8 := [21, 5, 182, 0, 156, 54, 6, 42, 21, 5, 28, 182, 0, 250, 55, 7, 33, 22, 7, 27, 21, 6, 16, 247]
abbrev dktX1_farAll_1 : List UInt8 := dkwX1_farAll_1 ++ dktX1_farAll_2
def dkwX1_farAll_0 : List UInt8 := [9, 66, 42, 9, 181, 1, 2, 3, 54, 5, 21, 5, 4, 42, 180, 0, 136, 120, 162, 0, 74, 42, 3]
abbrev dktX1_farAll_0 : List UInt8 := dkwX1_farAll_0 ++ dktX1_farAll_1
theorem dksX1_farAll_0 : cX1_farAll.data.toList.drop 0 = dktX1_farAll_0 := by decide +kernel
theorem dksX1_farAll_1 : cX1_farAll.data.toList.drop 23 = dktX1_farAll_1 := dk_seg dksX1_farAll_0 23 rfl rfl
theorem dksX1_farAll_2 : cX1_farAll.data.toList.drop 47 = dktX1_farAll_2 := dk_seg dksX1_farAll_1 24 rfl rfl
theorem dksX1_farAll_3 : cX1_farAll.data.toList.drop 71 = dktX1_farAll_3 := dk_seg dksX1_farAll_2 24 rfl rfl
theorem dX1_farAll_0 : decode cX1_farAll 0 = .ok (.lconst 0, 1) := dk_9 (dk_at dksX1_farAll_0 0 rfl rfl)
theorem dX1_farAll_1 : decode cX1_farAll 1 = .ok (.lstore_n 3, 1) := dk_66 (dk_at dksX1_farAll_0 1 rfl rfl)
theorem dX1_farAll_2 : decode cX1_farAll 2 = .ok (.aload_n 0, 1) := dk_42 (dk_at dksX1_farAll_0 2 rfl rfl)
theorem dX1_farAll_3 : decode cX1_farAll 3 = .ok (.lconst 0, 1) := dk_9 (dk_at dksX1_farAll_0 3 rfl rfl)
theorem dX1_farAll_4 : decode cX1_farAll 4 = .ok (.putfield 258, 3) := dk_181 1 2 (dk_at dksX1_farAll_0 4 rfl rfl)
theorem dX1_farAll_7 : decode cX1_farAll 7 = .ok (.iconst 0, 1) := dk_3 (dk_at dksX1_farAll_0 7 rfl rfl)
theorem dX1_farAll_8 : decode cX1_farAll 8 = .ok (.istore 5, 2) := dk_54 5 (dk_at dksX1_farAll_0 8 rfl rfl)
theorem dX1_farAll_10 : decode cX1_farAll 10 = .ok (.iload 5, 2) := dk_21 5 (dk_at dksX1_farAll_0 10 rfl rfl)
theorem dX1_farAll_12 : decode cX1_farAll 12 = .ok (.iconst 1, 1) := dk_4 (dk_at dksX1_farAll_0 12 rfl rfl)
theorem dX1_farAll_13 : decode cX1_farAll 13 = .ok (.aload_n 0, 1) := dk_42 (dk_at dksX1_farAll_0 13 rfl rfl)
theorem dX1_farAll_14 : decode cX1_farAll 14 = .ok (.getfield 136, 3) := dk_180 0 136 (dk_at dksX1_farAll_0 14 rfl rfl)
theorem dX1_farAll_17 : decode cX1_farAll 17 = .ok (.ishl, 1) := dk_120 (dk_at dksX1_farAll_0 17 rfl rfl)
theorem dX1_farAll_18 : decode cX1_farAll 18 = .ok (.if_icmp .ge 74, 3) := dk_162 0 74 (dk_at dksX1_farAll_0 18 rfl rfl)
theorem dX1_farAll_21 : decode cX1_farAll 21 = .ok (.aload_n 0, 1) := dk_42 (dk_at dksX1_farAll_0 21 rfl rfl)
theorem dX1_farAll_22 : decode cX1_farAll 22 = .ok (.iconst 0, 1) := dk_3 (dk_at dksX1_farAll_0 22 rfl rfl)
theorem dX1_farAll_23 : decode cX1_farAll 23 = .ok (.iload 5, 2) := dk_21 5 (dk_at dksX1_farAll_1 0 rfl rfl)
theorem dX1_farAll_25 : decode cX1_farAll 25 = .ok (.invokevirtual 156, 3) := dk_182 0 156 (dk_at dksX1_farAll_1 2 rfl rfl)
theorem dX1_farAll_28 : decode cX1_farAll 28 = .ok (.istore 6, 2) := dk_54 6 (dk_at dksX1_farAll_1 5 rfl rfl)
theorem dX1_farAll_30 : decode cX1_farAll 30 = .ok (.aload_n 0, 1) := dk_42 (dk_at dksX1_farAll_1 7 rfl rfl)
theorem dX1_farAll_31 : decode cX1_farAll 31 = .ok (.iload 5, 2) := dk_21 5 (dk_at dksX1_farAll_1 8 rfl rfl)
theorem dX1_farAll_33 : decode cX1_farAll 33 = .ok (.iload_n 2, 1) := dk_28 (dk_at dksX1_farAll_1 10 rfl rfl)
theorem dX1_farAll_34 : decode cX1_farAll 34 = .ok (.invokevirtual 250, 3) := dk_182 0 250 (dk_at dksX1_farAll_1 11 rfl rfl)
theorem dX1_farAll_37 : decode cX1_farAll 37 = .ok (.lstore 7, 2) := dk_55 7 (dk_at dksX1_farAll_1 14 rfl rfl)
theorem dX1_farAll_39 : decode cX1_farAll 39 = .ok (.lload_n 3, 1) := dk_33 (dk_at dksX1_farAll_1 16 rfl rfl)
theorem dX1_farAll_40 : decode cX1_farAll 40 = .ok (.lload 7, 2) := dk_22 7 (dk_at dksX1_farAll_1 17 rfl rfl)
theorem dX1_farAll_42 : decode cX1_farAll 42 = .ok (.iload_n 1, 1) := dk_27 (dk_at dksX1_farAll_1 19 rfl rfl)
theorem dX1_farAll_43 : decode cX1_farAll 43 = .ok (.iload 6, 2) := dk_21 6 (dk_at dksX1_farAll_1 20 rfl rfl)
theorem dX1_farAll_45 : decode cX1_farAll 45 = .ok (.bipush (-9), 2) := dk_16 247 (dk_at dksX1_farAll_1 22 rfl rfl)
theorem dX1_farAll_47 : decode cX1_farAll 47 = .ok (.if_icmp .ne 12, 3) := dk_160 0 12 (dk_at dksX1_farAll_2 0 rfl rfl)
theorem dX1_farAll_50 : decode cX1_farAll 50 = .ok (.aload_n 0, 1) := dk_42 (dk_at dksX1_farAll_2 3 rfl rfl)
theorem dX1_farAll_51 : decode cX1_farAll 51 = .ok (.getfield 7, 3) := dk_180 0 7 (dk_at dksX1_farAll_2 4 rfl rfl)
theorem dX1_farAll_54 : decode cX1_farAll 54 = .ok (.iconst 2, 1) := dk_5 (dk_at dksX1_farAll_2 7 rfl rfl)
theorem dX1_farAll_55 : decode cX1_farAll 55 = .ok (.iaload, 1) := dk_46 (dk_at dksX1_farAll_2 8 rfl rfl)
theorem dX1_farAll_56 : decode cX1_farAll 56 = .ok (.goto 12, 3) := dk_167 0 12 (dk_at dksX1_farAll_2 9 rfl rfl)
theorem dX1_farAll_59 : decode cX1_farAll 59 = .ok (.aload_n 0, 1) := dk_42 (dk_at dksX1_farAll_2 12 rfl rfl)
theorem dX1_farAll_60 : decode cX1_farAll 60 = .ok (.getfield 7, 3) := dk_180 0 7 (dk_at dksX1_farAll_2 13 rfl rfl)
theorem dX1_farAll_63 : decode cX1_farAll 63 = .ok (.iconst 3, 1) := dk_6 (dk_at dksX1_farAll_2 16 rfl rfl)
theorem dX1_farAll_64 : decode cX1_farAll 64 = .ok (.iload 6, 2) := dk_21 6 (dk_at dksX1_farAll_2 17 rfl rfl)
theorem dX1_farAll_66 : decode cX1_farAll 66 = .ok (.iadd, 1) := dk_96 (dk_at dksX1_farAll_2 19 rfl rfl)
theorem dX1_farAll_67 : decode cX1_farAll 67 = .ok (.iaload, 1) := dk_46 (dk_at dksX1_farAll_2 20 rfl rfl)
theorem dX1_farAll_68 : decode cX1_farAll 68 = .ok (.invokestatic 139, 3) := dk_184 0 139 (dk_at dksX1_farAll_2 21 rfl rfl)
theorem dX1_farAll_71 : decode cX1_farAll 71 = .ok (.i2l, 1) := dk_133 (dk_at dksX1_farAll_3 0 rfl rfl)
theorem dX1_farAll_72 : decode cX1_farAll 72 = .ok (.lmul, 1) := dk_105 (dk_at dksX1_farAll_3 1 rfl rfl)
theorem dX1_farAll_73 : decode cX1_farAll 73 = .ok (.ladd, 1) := dk_97 (dk_at dksX1_farAll_3 2 rfl rfl)
theorem dX1_farAll_74 : decode cX1_farAll 74 = .ok (.lstore_n 3, 1) := dk_66 (dk_at dksX1_farAll_3 3 rfl rfl)
theorem dX1_farAll_75 : decode cX1_farAll 75 = .ok (.aload_n 0, 1) := dk_42 (dk_at dksX1_farAll_3 4 rfl rfl)
theorem dX1_farAll_76 : decode cX1_farAll 76 = .ok (.dup, 1) := dk_89 (dk_at dksX1_farAll_3 5 rfl rfl)
theorem dX1_farAll_77 : decode cX1_farAll 77 = .ok (.getfield 258, 3) := dk_180 1 2 (dk_at dksX1_farAll_3 6 rfl rfl)
theorem dX1_farAll_80 : decode cX1_farAll 80 = .ok (.lload 7, 2) := dk_22 7 (dk_at dksX1_farAll_3 9 rfl rfl)
theorem dX1_farAll_82 : decode cX1_farAll 82 = .ok (.ladd, 1) := dk_97 (dk_at dksX1_farAll_3 11 rfl rfl)
theorem dX1_farAll_83 : decode cX1_farAll 83 = .ok (.putfield 258, 3) := dk_181 1 2 (dk_at dksX1_farAll_3 12 rfl rfl)
theorem dX1_farAll_86 : decode cX1_farAll 86 = .ok (.iinc 5 1, 3) := dk_132 5 1 (dk_at dksX1_farAll_3 15 rfl rfl)
theorem dX1_farAll_89 : decode cX1_farAll 89 = .ok (.goto (-79), 3) := dk_167 255 177 (dk_at dksX1_farAll_3 18 rfl rfl)
theorem dX1_farAll_92 : decode cX1_farAll 92 = .ok (.lload_n 3, 1) := dk_33 (dk_at dksX1_farAll_3 21 rfl rfl)
theorem dX1_farAll_93 : decode cX1_farAll 93 = .ok (.lreturn, 1) := dk_173 (dk_at dksX1_farAll_3 22 rfl rfl)
abbrev cX1_fair : ByteArray := prog_10_method_83_code
def yX1_fair : MethodName := ⟨RX1, "fair", "(I)I"⟩
def dkwX1_fair_4 : List UInt8 := [132, 5, 1, 167, 255, 193, 42, 33, 42, 180, 1, 2, 182, 0, 254, 28, 172]
abbrev dktX1_fair_4 : List UInt8 := dkwX1_fair_4 ++ []
def dkwX1_fair_3 : List UInt8 := [153, 0, 8, 21, 5, 167, 0, 4, 28, 61, 21, 8, 153, 0, 8, 22, 6, 167, 0, 4, 33, 66]
abbrev dktX1_fair_3 : List UInt8 := dkwX1_fair_3 ++ dktX1_fair_4
def dkwX1_fair_2 : List UInt8 := [55, 6, 33, 9, 148, 155, 0, 10, 22, 6, 33, 148, 156, 0, 7, 4, 167, 0, 4, 3, 54, 8, 21, 8]
abbrev dktX1_fair_2 : List UInt8 := dkwX1_fair_2 ++ dktX1_fair_3
def dkwX1_fair_1 : List UInt8 := [3, 61, 20, 1, 8, 66, 3, 54, 5, 21, 5, 16, 10, 162, 0, 62, 42, 21, 5, 27, 182, 1, 5]
abbrev dktX1_fair_1 : List UInt8 := dkwX1_fair_1 ++ dktX1_fair_2
def dkwX1_fair_0 : List UInt8 := [27, 133, 9, 20, 0, 248, 184, 0, 59, 154, 0, 5, 2, 172, 42, 180, 0, 136, 154, 0, 6, 16, 252, 172]
abbrev dktX1_fair_0 : List UInt8 := dkwX1_fair_0 ++ dktX1_fair_1
theorem dksX1_fair_0 : cX1_fair.data.toList.drop 0 = dktX1_fair_0 := by decide +kernel
theorem dksX1_fair_1 : cX1_fair.data.toList.drop 24 = dktX1_fair_1 := dk_seg dksX1_fair_0 24 rfl rfl
theorem dksX1_fair_2 : cX1_fair.data.toList.drop 47 = dktX1_fair_2 := dk_seg dksX1_fair_1 23 rfl rfl
theorem dksX1_fair_3 : cX1_fair.data.toList.drop 71 = dktX1_fair_3 := dk_seg dksX1_fair_2 24 rfl rfl
theorem dksX1_fair_4 : cX1_fair.data.toList.drop 93 = dktX1_fair_4 := dk_seg dksX1_fair_3 22 rfl rfl
theorem dX1_fair_0 : decode cX1_fair 0 = .ok (.iload_n 1, 1) := dk_27 (dk_at dksX1_fair_0 0 rfl rfl)
theorem dX1_fair_1 : decode cX1_fair 1 = .ok (.i2l, 1) := dk_133 (dk_at dksX1_fair_0 1 rfl rfl)
theorem dX1_fair_2 : decode cX1_fair 2 = .ok (.lconst 0, 1) := dk_9 (dk_at dksX1_fair_0 2 rfl rfl)
theorem dX1_fair_3 : decode cX1_fair 3 = .ok (.ldc2_w 248, 3) := dk_20 0 248 (dk_at dksX1_fair_0 3 rfl rfl)
theorem dX1_fair_6 : decode cX1_fair 6 = .ok (.invokestatic 59, 3) := dk_184 0 59 (dk_at dksX1_fair_0 6 rfl rfl)
theorem dX1_fair_9 : decode cX1_fair 9 = .ok (.ifCond .ne 5, 3) := dk_154 0 5 (dk_at dksX1_fair_0 9 rfl rfl)
theorem dX1_fair_12 : decode cX1_fair 12 = .ok (.iconst (-1), 1) := dk_2 (dk_at dksX1_fair_0 12 rfl rfl)
theorem dX1_fair_13 : decode cX1_fair 13 = .ok (.ireturn, 1) := dk_172 (dk_at dksX1_fair_0 13 rfl rfl)
theorem dX1_fair_14 : decode cX1_fair 14 = .ok (.aload_n 0, 1) := dk_42 (dk_at dksX1_fair_0 14 rfl rfl)
theorem dX1_fair_15 : decode cX1_fair 15 = .ok (.getfield 136, 3) := dk_180 0 136 (dk_at dksX1_fair_0 15 rfl rfl)
theorem dX1_fair_18 : decode cX1_fair 18 = .ok (.ifCond .ne 6, 3) := dk_154 0 6 (dk_at dksX1_fair_0 18 rfl rfl)
theorem dX1_fair_21 : decode cX1_fair 21 = .ok (.bipush (-4), 2) := dk_16 252 (dk_at dksX1_fair_0 21 rfl rfl)
theorem dX1_fair_23 : decode cX1_fair 23 = .ok (.ireturn, 1) := dk_172 (dk_at dksX1_fair_0 23 rfl rfl)
theorem dX1_fair_24 : decode cX1_fair 24 = .ok (.iconst 0, 1) := dk_3 (dk_at dksX1_fair_1 0 rfl rfl)
theorem dX1_fair_25 : decode cX1_fair 25 = .ok (.istore_n 2, 1) := dk_61 (dk_at dksX1_fair_1 1 rfl rfl)
theorem dX1_fair_26 : decode cX1_fair 26 = .ok (.ldc2_w 264, 3) := dk_20 1 8 (dk_at dksX1_fair_1 2 rfl rfl)
theorem dX1_fair_29 : decode cX1_fair 29 = .ok (.lstore_n 3, 1) := dk_66 (dk_at dksX1_fair_1 5 rfl rfl)
theorem dX1_fair_30 : decode cX1_fair 30 = .ok (.iconst 0, 1) := dk_3 (dk_at dksX1_fair_1 6 rfl rfl)
theorem dX1_fair_31 : decode cX1_fair 31 = .ok (.istore 5, 2) := dk_54 5 (dk_at dksX1_fair_1 7 rfl rfl)
theorem dX1_fair_33 : decode cX1_fair 33 = .ok (.iload 5, 2) := dk_21 5 (dk_at dksX1_fair_1 9 rfl rfl)
theorem dX1_fair_35 : decode cX1_fair 35 = .ok (.bipush 10, 2) := dk_16 10 (dk_at dksX1_fair_1 11 rfl rfl)
theorem dX1_fair_37 : decode cX1_fair 37 = .ok (.if_icmp .ge 62, 3) := dk_162 0 62 (dk_at dksX1_fair_1 13 rfl rfl)
theorem dX1_fair_40 : decode cX1_fair 40 = .ok (.aload_n 0, 1) := dk_42 (dk_at dksX1_fair_1 16 rfl rfl)
theorem dX1_fair_41 : decode cX1_fair 41 = .ok (.iload 5, 2) := dk_21 5 (dk_at dksX1_fair_1 17 rfl rfl)
theorem dX1_fair_43 : decode cX1_fair 43 = .ok (.iload_n 1, 1) := dk_27 (dk_at dksX1_fair_1 19 rfl rfl)
theorem dX1_fair_44 : decode cX1_fair 44 = .ok (.invokevirtual 261, 3) := dk_182 1 5 (dk_at dksX1_fair_1 20 rfl rfl)
theorem dX1_fair_47 : decode cX1_fair 47 = .ok (.lstore 6, 2) := dk_55 6 (dk_at dksX1_fair_2 0 rfl rfl)
theorem dX1_fair_49 : decode cX1_fair 49 = .ok (.lload_n 3, 1) := dk_33 (dk_at dksX1_fair_2 2 rfl rfl)
theorem dX1_fair_50 : decode cX1_fair 50 = .ok (.lconst 0, 1) := dk_9 (dk_at dksX1_fair_2 3 rfl rfl)
theorem dX1_fair_51 : decode cX1_fair 51 = .ok (.lcmp, 1) := dk_148 (dk_at dksX1_fair_2 4 rfl rfl)
theorem dX1_fair_52 : decode cX1_fair 52 = .ok (.ifCond .lt 10, 3) := dk_155 0 10 (dk_at dksX1_fair_2 5 rfl rfl)
theorem dX1_fair_55 : decode cX1_fair 55 = .ok (.lload 6, 2) := dk_22 6 (dk_at dksX1_fair_2 8 rfl rfl)
theorem dX1_fair_57 : decode cX1_fair 57 = .ok (.lload_n 3, 1) := dk_33 (dk_at dksX1_fair_2 10 rfl rfl)
theorem dX1_fair_58 : decode cX1_fair 58 = .ok (.lcmp, 1) := dk_148 (dk_at dksX1_fair_2 11 rfl rfl)
theorem dX1_fair_59 : decode cX1_fair 59 = .ok (.ifCond .ge 7, 3) := dk_156 0 7 (dk_at dksX1_fair_2 12 rfl rfl)
theorem dX1_fair_62 : decode cX1_fair 62 = .ok (.iconst 1, 1) := dk_4 (dk_at dksX1_fair_2 15 rfl rfl)
theorem dX1_fair_63 : decode cX1_fair 63 = .ok (.goto 4, 3) := dk_167 0 4 (dk_at dksX1_fair_2 16 rfl rfl)
theorem dX1_fair_66 : decode cX1_fair 66 = .ok (.iconst 0, 1) := dk_3 (dk_at dksX1_fair_2 19 rfl rfl)
theorem dX1_fair_67 : decode cX1_fair 67 = .ok (.istore 8, 2) := dk_54 8 (dk_at dksX1_fair_2 20 rfl rfl)
theorem dX1_fair_69 : decode cX1_fair 69 = .ok (.iload 8, 2) := dk_21 8 (dk_at dksX1_fair_2 22 rfl rfl)
theorem dX1_fair_71 : decode cX1_fair 71 = .ok (.ifCond .eq 8, 3) := dk_153 0 8 (dk_at dksX1_fair_3 0 rfl rfl)
theorem dX1_fair_74 : decode cX1_fair 74 = .ok (.iload 5, 2) := dk_21 5 (dk_at dksX1_fair_3 3 rfl rfl)
theorem dX1_fair_76 : decode cX1_fair 76 = .ok (.goto 4, 3) := dk_167 0 4 (dk_at dksX1_fair_3 5 rfl rfl)
theorem dX1_fair_79 : decode cX1_fair 79 = .ok (.iload_n 2, 1) := dk_28 (dk_at dksX1_fair_3 8 rfl rfl)
theorem dX1_fair_80 : decode cX1_fair 80 = .ok (.istore_n 2, 1) := dk_61 (dk_at dksX1_fair_3 9 rfl rfl)
theorem dX1_fair_81 : decode cX1_fair 81 = .ok (.iload 8, 2) := dk_21 8 (dk_at dksX1_fair_3 10 rfl rfl)
theorem dX1_fair_83 : decode cX1_fair 83 = .ok (.ifCond .eq 8, 3) := dk_153 0 8 (dk_at dksX1_fair_3 12 rfl rfl)
theorem dX1_fair_86 : decode cX1_fair 86 = .ok (.lload 6, 2) := dk_22 6 (dk_at dksX1_fair_3 15 rfl rfl)
theorem dX1_fair_88 : decode cX1_fair 88 = .ok (.goto 4, 3) := dk_167 0 4 (dk_at dksX1_fair_3 17 rfl rfl)
theorem dX1_fair_91 : decode cX1_fair 91 = .ok (.lload_n 3, 1) := dk_33 (dk_at dksX1_fair_3 20 rfl rfl)
theorem dX1_fair_92 : decode cX1_fair 92 = .ok (.lstore_n 3, 1) := dk_66 (dk_at dksX1_fair_3 21 rfl rfl)
theorem dX1_fair_93 : decode cX1_fair 93 = .ok (.iinc 5 1, 3) := dk_132 5 1 (dk_at dksX1_fair_4 0 rfl rfl)
theorem dX1_fair_96 : decode cX1_fair 96 = .ok (.goto (-63), 3) := dk_167 255 193 (dk_at dksX1_fair_4 3 rfl rfl)
theorem dX1_fair_99 : decode cX1_fair 99 = .ok (.aload_n 0, 1) := dk_42 (dk_at dksX1_fair_4 6 rfl rfl)
theorem dX1_fair_100 : decode cX1_fair 100 = .ok (.lload_n 3, 1) := dk_33 (dk_at dksX1_fair_4 7 rfl rfl)
theorem dX1_fair_101 : decode cX1_fair 101 = .ok (.aload_n 0, 1) := dk_42 (dk_at dksX1_fair_4 8 rfl rfl)
theorem dX1_fair_102 : decode cX1_fair 102 = .ok (.getfield 258, 3) := dk_180 1 2 (dk_at dksX1_fair_4 9 rfl rfl)
theorem dX1_fair_105 : decode cX1_fair 105 = .ok (.invokevirtual 254, 3) := dk_182 0 254 (dk_at dksX1_fair_4 12 rfl rfl)
theorem dX1_fair_108 : decode cX1_fair 108 = .ok (.iload_n 2, 1) := dk_28 (dk_at dksX1_fair_4 15 rfl rfl)
theorem dX1_fair_109 : decode cX1_fair 109 = .ok (.ireturn, 1) := dk_172 (dk_at dksX1_fair_4 16 rfl rfl)
abbrev cX1_lots : ByteArray := prog_10_method_85_code
def yX1_lots : MethodName := ⟨RX1, "lots", "(II)I"⟩
def dkwX1_lots_4 : List UInt8 := [5, 46, 172]
abbrev dktX1_lots_4 : List UInt8 := dkwX1_lots_4 ++ []
def dkwX1_lots_3 : List UInt8 := [20, 1, 18, 113, 66, 42, 182, 0, 174, 42, 33, 182, 1, 20, 132, 5, 1, 167, 255, 228, 42, 180, 0, 7]
abbrev dktX1_lots_3 : List UInt8 := dkwX1_lots_3 ++ dktX1_lots_4
def dkwX1_lots_2 : List UInt8 := [164, 0, 6, 16, 254, 172, 28, 133, 66, 3, 54, 5, 21, 5, 27, 162, 0, 28, 33, 20, 1, 16, 105]
abbrev dktX1_lots_2 : List UInt8 := dkwX1_lots_2 ++ dktX1_lots_3
def dkwX1_lots_1 : List UInt8 := [2, 172, 42, 180, 0, 136, 154, 0, 6, 16, 252, 172, 42, 180, 0, 7, 3, 46, 27, 96, 16, 40]
abbrev dktX1_lots_1 : List UInt8 := dkwX1_lots_1 ++ dktX1_lots_2
def dkwX1_lots_0 : List UInt8 := [27, 133, 10, 20, 0, 180, 184, 0, 59, 153, 0, 15, 28, 133, 10, 20, 1, 14, 184, 0, 59, 154, 0, 5]
abbrev dktX1_lots_0 : List UInt8 := dkwX1_lots_0 ++ dktX1_lots_1
theorem dksX1_lots_0 : cX1_lots.data.toList.drop 0 = dktX1_lots_0 := by decide +kernel
theorem dksX1_lots_1 : cX1_lots.data.toList.drop 24 = dktX1_lots_1 := dk_seg dksX1_lots_0 24 rfl rfl
theorem dksX1_lots_2 : cX1_lots.data.toList.drop 46 = dktX1_lots_2 := dk_seg dksX1_lots_1 22 rfl rfl
theorem dksX1_lots_3 : cX1_lots.data.toList.drop 69 = dktX1_lots_3 := dk_seg dksX1_lots_2 23 rfl rfl
theorem dksX1_lots_4 : cX1_lots.data.toList.drop 93 = dktX1_lots_4 := dk_seg dksX1_lots_3 24 rfl rfl
theorem dX1_lots_0 : decode cX1_lots 0 = .ok (.iload_n 1, 1) := dk_27 (dk_at dksX1_lots_0 0 rfl rfl)
theorem dX1_lots_1 : decode cX1_lots 1 = .ok (.i2l, 1) := dk_133 (dk_at dksX1_lots_0 1 rfl rfl)
theorem dX1_lots_2 : decode cX1_lots 2 = .ok (.lconst 1, 1) := dk_10 (dk_at dksX1_lots_0 2 rfl rfl)
theorem dX1_lots_3 : decode cX1_lots 3 = .ok (.ldc2_w 180, 3) := dk_20 0 180 (dk_at dksX1_lots_0 3 rfl rfl)
theorem dX1_lots_6 : decode cX1_lots 6 = .ok (.invokestatic 59, 3) := dk_184 0 59 (dk_at dksX1_lots_0 6 rfl rfl)
theorem dX1_lots_9 : decode cX1_lots 9 = .ok (.ifCond .eq 15, 3) := dk_153 0 15 (dk_at dksX1_lots_0 9 rfl rfl)
theorem dX1_lots_12 : decode cX1_lots 12 = .ok (.iload_n 2, 1) := dk_28 (dk_at dksX1_lots_0 12 rfl rfl)
theorem dX1_lots_13 : decode cX1_lots 13 = .ok (.i2l, 1) := dk_133 (dk_at dksX1_lots_0 13 rfl rfl)
theorem dX1_lots_14 : decode cX1_lots 14 = .ok (.lconst 1, 1) := dk_10 (dk_at dksX1_lots_0 14 rfl rfl)
theorem dX1_lots_15 : decode cX1_lots 15 = .ok (.ldc2_w 270, 3) := dk_20 1 14 (dk_at dksX1_lots_0 15 rfl rfl)
theorem dX1_lots_18 : decode cX1_lots 18 = .ok (.invokestatic 59, 3) := dk_184 0 59 (dk_at dksX1_lots_0 18 rfl rfl)
theorem dX1_lots_21 : decode cX1_lots 21 = .ok (.ifCond .ne 5, 3) := dk_154 0 5 (dk_at dksX1_lots_0 21 rfl rfl)
theorem dX1_lots_24 : decode cX1_lots 24 = .ok (.iconst (-1), 1) := dk_2 (dk_at dksX1_lots_1 0 rfl rfl)
theorem dX1_lots_25 : decode cX1_lots 25 = .ok (.ireturn, 1) := dk_172 (dk_at dksX1_lots_1 1 rfl rfl)
theorem dX1_lots_26 : decode cX1_lots 26 = .ok (.aload_n 0, 1) := dk_42 (dk_at dksX1_lots_1 2 rfl rfl)
theorem dX1_lots_27 : decode cX1_lots 27 = .ok (.getfield 136, 3) := dk_180 0 136 (dk_at dksX1_lots_1 3 rfl rfl)
theorem dX1_lots_30 : decode cX1_lots 30 = .ok (.ifCond .ne 6, 3) := dk_154 0 6 (dk_at dksX1_lots_1 6 rfl rfl)
theorem dX1_lots_33 : decode cX1_lots 33 = .ok (.bipush (-4), 2) := dk_16 252 (dk_at dksX1_lots_1 9 rfl rfl)
theorem dX1_lots_35 : decode cX1_lots 35 = .ok (.ireturn, 1) := dk_172 (dk_at dksX1_lots_1 11 rfl rfl)
theorem dX1_lots_36 : decode cX1_lots 36 = .ok (.aload_n 0, 1) := dk_42 (dk_at dksX1_lots_1 12 rfl rfl)
theorem dX1_lots_37 : decode cX1_lots 37 = .ok (.getfield 7, 3) := dk_180 0 7 (dk_at dksX1_lots_1 13 rfl rfl)
theorem dX1_lots_40 : decode cX1_lots 40 = .ok (.iconst 0, 1) := dk_3 (dk_at dksX1_lots_1 16 rfl rfl)
theorem dX1_lots_41 : decode cX1_lots 41 = .ok (.iaload, 1) := dk_46 (dk_at dksX1_lots_1 17 rfl rfl)
theorem dX1_lots_42 : decode cX1_lots 42 = .ok (.iload_n 1, 1) := dk_27 (dk_at dksX1_lots_1 18 rfl rfl)
theorem dX1_lots_43 : decode cX1_lots 43 = .ok (.iadd, 1) := dk_96 (dk_at dksX1_lots_1 19 rfl rfl)
theorem dX1_lots_44 : decode cX1_lots 44 = .ok (.bipush 40, 2) := dk_16 40 (dk_at dksX1_lots_1 20 rfl rfl)
theorem dX1_lots_46 : decode cX1_lots 46 = .ok (.if_icmp .le 6, 3) := dk_164 0 6 (dk_at dksX1_lots_2 0 rfl rfl)
theorem dX1_lots_49 : decode cX1_lots 49 = .ok (.bipush (-2), 2) := dk_16 254 (dk_at dksX1_lots_2 3 rfl rfl)
theorem dX1_lots_51 : decode cX1_lots 51 = .ok (.ireturn, 1) := dk_172 (dk_at dksX1_lots_2 5 rfl rfl)
theorem dX1_lots_52 : decode cX1_lots 52 = .ok (.iload_n 2, 1) := dk_28 (dk_at dksX1_lots_2 6 rfl rfl)
theorem dX1_lots_53 : decode cX1_lots 53 = .ok (.i2l, 1) := dk_133 (dk_at dksX1_lots_2 7 rfl rfl)
theorem dX1_lots_54 : decode cX1_lots 54 = .ok (.lstore_n 3, 1) := dk_66 (dk_at dksX1_lots_2 8 rfl rfl)
theorem dX1_lots_55 : decode cX1_lots 55 = .ok (.iconst 0, 1) := dk_3 (dk_at dksX1_lots_2 9 rfl rfl)
theorem dX1_lots_56 : decode cX1_lots 56 = .ok (.istore 5, 2) := dk_54 5 (dk_at dksX1_lots_2 10 rfl rfl)
theorem dX1_lots_58 : decode cX1_lots 58 = .ok (.iload 5, 2) := dk_21 5 (dk_at dksX1_lots_2 12 rfl rfl)
theorem dX1_lots_60 : decode cX1_lots 60 = .ok (.iload_n 1, 1) := dk_27 (dk_at dksX1_lots_2 14 rfl rfl)
theorem dX1_lots_61 : decode cX1_lots 61 = .ok (.if_icmp .ge 28, 3) := dk_162 0 28 (dk_at dksX1_lots_2 15 rfl rfl)
theorem dX1_lots_64 : decode cX1_lots 64 = .ok (.lload_n 3, 1) := dk_33 (dk_at dksX1_lots_2 18 rfl rfl)
theorem dX1_lots_65 : decode cX1_lots 65 = .ok (.ldc2_w 272, 3) := dk_20 1 16 (dk_at dksX1_lots_2 19 rfl rfl)
theorem dX1_lots_68 : decode cX1_lots 68 = .ok (.lmul, 1) := dk_105 (dk_at dksX1_lots_2 22 rfl rfl)
theorem dX1_lots_69 : decode cX1_lots 69 = .ok (.ldc2_w 274, 3) := dk_20 1 18 (dk_at dksX1_lots_3 0 rfl rfl)
theorem dX1_lots_72 : decode cX1_lots 72 = .ok (.lrem, 1) := dk_113 (dk_at dksX1_lots_3 3 rfl rfl)
theorem dX1_lots_73 : decode cX1_lots 73 = .ok (.lstore_n 3, 1) := dk_66 (dk_at dksX1_lots_3 4 rfl rfl)
theorem dX1_lots_74 : decode cX1_lots 74 = .ok (.aload_n 0, 1) := dk_42 (dk_at dksX1_lots_3 5 rfl rfl)
theorem dX1_lots_75 : decode cX1_lots 75 = .ok (.invokevirtual 174, 3) := dk_182 0 174 (dk_at dksX1_lots_3 6 rfl rfl)
theorem dX1_lots_78 : decode cX1_lots 78 = .ok (.aload_n 0, 1) := dk_42 (dk_at dksX1_lots_3 9 rfl rfl)
theorem dX1_lots_79 : decode cX1_lots 79 = .ok (.lload_n 3, 1) := dk_33 (dk_at dksX1_lots_3 10 rfl rfl)
theorem dX1_lots_80 : decode cX1_lots 80 = .ok (.invokevirtual 276, 3) := dk_182 1 20 (dk_at dksX1_lots_3 11 rfl rfl)
theorem dX1_lots_83 : decode cX1_lots 83 = .ok (.iinc 5 1, 3) := dk_132 5 1 (dk_at dksX1_lots_3 14 rfl rfl)
theorem dX1_lots_86 : decode cX1_lots 86 = .ok (.goto (-28), 3) := dk_167 255 228 (dk_at dksX1_lots_3 17 rfl rfl)
theorem dX1_lots_89 : decode cX1_lots 89 = .ok (.aload_n 0, 1) := dk_42 (dk_at dksX1_lots_3 20 rfl rfl)
theorem dX1_lots_90 : decode cX1_lots 90 = .ok (.getfield 7, 3) := dk_180 0 7 (dk_at dksX1_lots_3 21 rfl rfl)
theorem dX1_lots_93 : decode cX1_lots 93 = .ok (.iconst 2, 1) := dk_5 (dk_at dksX1_lots_4 0 rfl rfl)
theorem dX1_lots_94 : decode cX1_lots 94 = .ok (.iaload, 1) := dk_46 (dk_at dksX1_lots_4 1 rfl rfl)
theorem dX1_lots_95 : decode cX1_lots 95 = .ok (.ireturn, 1) := dk_172 (dk_at dksX1_lots_4 2 rfl rfl)
abbrev cX1_byLot : ByteArray := prog_10_method_84_code
def yX1_byLot : MethodName := ⟨RX1, "byLot", "(J)V"⟩
def dkwX1_byLot_6 : List UInt8 := [167, 0, 9, 42, 3, 182, 0, 177, 87, 177]
abbrev dktX1_byLot_6 : List UInt8 := dkwX1_byLot_6 ++ []
def dkwX1_byLot_5 : List UInt8 := [21, 4, 6, 160, 0, 24, 42, 180, 0, 7, 6, 29, 96, 31, 20, 1, 12, 109, 20, 0, 214, 113, 136, 79]
abbrev dktX1_byLot_5 : List UInt8 := dkwX1_byLot_5 ++ dktX1_byLot_6
def dkwX1_byLot_4 : List UInt8 := [16, 9, 29, 96, 21, 6, 21, 5, 162, 0, 7, 3, 167, 0, 8, 21, 6, 21, 5, 100, 79, 167, 0, 36]
abbrev dktX1_byLot_4 : List UInt8 := dkwX1_byLot_4 ++ dktX1_byLot_5
def dkwX1_byLot_3 : List UInt8 := [16, 20, 167, 0, 8, 21, 6, 21, 5, 96, 79, 167, 0, 70, 21, 4, 5, 160, 0, 31, 42, 180, 0, 7]
abbrev dktX1_byLot_3 : List UInt8 := dkwX1_byLot_3 ++ dktX1_byLot_4
def dkwX1_byLot_2 : List UInt8 := [21, 4, 5, 162, 0, 35, 42, 180, 0, 7, 16, 9, 29, 96, 21, 6, 21, 5, 96, 16, 20, 164, 0, 8]
abbrev dktX1_byLot_2 : List UInt8 := dkwX1_byLot_2 ++ dktX1_byLot_3
def dkwX1_byLot_1 : List UInt8 := [20, 1, 12, 109, 20, 0, 57, 113, 136, 96, 54, 5, 42, 180, 0, 7, 16, 9, 29, 96, 46, 54, 6]
abbrev dktX1_byLot_1 : List UInt8 := dkwX1_byLot_1 ++ dktX1_byLot_2
def dkwX1_byLot_0 : List UInt8 := [31, 42, 180, 0, 136, 133, 113, 136, 62, 31, 20, 1, 10, 109, 20, 1, 10, 113, 136, 54, 4, 4, 31]
abbrev dktX1_byLot_0 : List UInt8 := dkwX1_byLot_0 ++ dktX1_byLot_1
theorem dksX1_byLot_0 : cX1_byLot.data.toList.drop 0 = dktX1_byLot_0 := by decide +kernel
theorem dksX1_byLot_1 : cX1_byLot.data.toList.drop 23 = dktX1_byLot_1 := dk_seg dksX1_byLot_0 23 rfl rfl
theorem dksX1_byLot_2 : cX1_byLot.data.toList.drop 46 = dktX1_byLot_2 := dk_seg dksX1_byLot_1 23 rfl rfl
theorem dksX1_byLot_3 : cX1_byLot.data.toList.drop 70 = dktX1_byLot_3 := dk_seg dksX1_byLot_2 24 rfl rfl
theorem dksX1_byLot_4 : cX1_byLot.data.toList.drop 94 = dktX1_byLot_4 := dk_seg dksX1_byLot_3 24 rfl rfl
theorem dksX1_byLot_5 : cX1_byLot.data.toList.drop 118 = dktX1_byLot_5 := dk_seg dksX1_byLot_4 24 rfl rfl
theorem dksX1_byLot_6 : cX1_byLot.data.toList.drop 142 = dktX1_byLot_6 := dk_seg dksX1_byLot_5 24 rfl rfl
theorem dX1_byLot_0 : decode cX1_byLot 0 = .ok (.lload_n 1, 1) := dk_31 (dk_at dksX1_byLot_0 0 rfl rfl)
theorem dX1_byLot_1 : decode cX1_byLot 1 = .ok (.aload_n 0, 1) := dk_42 (dk_at dksX1_byLot_0 1 rfl rfl)
theorem dX1_byLot_2 : decode cX1_byLot 2 = .ok (.getfield 136, 3) := dk_180 0 136 (dk_at dksX1_byLot_0 2 rfl rfl)
theorem dX1_byLot_5 : decode cX1_byLot 5 = .ok (.i2l, 1) := dk_133 (dk_at dksX1_byLot_0 5 rfl rfl)
theorem dX1_byLot_6 : decode cX1_byLot 6 = .ok (.lrem, 1) := dk_113 (dk_at dksX1_byLot_0 6 rfl rfl)
theorem dX1_byLot_7 : decode cX1_byLot 7 = .ok (.l2i, 1) := dk_136 (dk_at dksX1_byLot_0 7 rfl rfl)
theorem dX1_byLot_8 : decode cX1_byLot 8 = .ok (.istore_n 3, 1) := dk_62 (dk_at dksX1_byLot_0 8 rfl rfl)
theorem dX1_byLot_9 : decode cX1_byLot 9 = .ok (.lload_n 1, 1) := dk_31 (dk_at dksX1_byLot_0 9 rfl rfl)
theorem dX1_byLot_10 : decode cX1_byLot 10 = .ok (.ldc2_w 266, 3) := dk_20 1 10 (dk_at dksX1_byLot_0 10 rfl rfl)
theorem dX1_byLot_13 : decode cX1_byLot 13 = .ok (.ldiv, 1) := dk_109 (dk_at dksX1_byLot_0 13 rfl rfl)
theorem dX1_byLot_14 : decode cX1_byLot 14 = .ok (.ldc2_w 266, 3) := dk_20 1 10 (dk_at dksX1_byLot_0 14 rfl rfl)
theorem dX1_byLot_17 : decode cX1_byLot 17 = .ok (.lrem, 1) := dk_113 (dk_at dksX1_byLot_0 17 rfl rfl)
theorem dX1_byLot_18 : decode cX1_byLot 18 = .ok (.l2i, 1) := dk_136 (dk_at dksX1_byLot_0 18 rfl rfl)
theorem dX1_byLot_19 : decode cX1_byLot 19 = .ok (.istore 4, 2) := dk_54 4 (dk_at dksX1_byLot_0 19 rfl rfl)
theorem dX1_byLot_21 : decode cX1_byLot 21 = .ok (.iconst 1, 1) := dk_4 (dk_at dksX1_byLot_0 21 rfl rfl)
theorem dX1_byLot_22 : decode cX1_byLot 22 = .ok (.lload_n 1, 1) := dk_31 (dk_at dksX1_byLot_0 22 rfl rfl)
theorem dX1_byLot_23 : decode cX1_byLot 23 = .ok (.ldc2_w 268, 3) := dk_20 1 12 (dk_at dksX1_byLot_1 0 rfl rfl)
theorem dX1_byLot_26 : decode cX1_byLot 26 = .ok (.ldiv, 1) := dk_109 (dk_at dksX1_byLot_1 3 rfl rfl)
theorem dX1_byLot_27 : decode cX1_byLot 27 = .ok (.ldc2_w 57, 3) := dk_20 0 57 (dk_at dksX1_byLot_1 4 rfl rfl)
theorem dX1_byLot_30 : decode cX1_byLot 30 = .ok (.lrem, 1) := dk_113 (dk_at dksX1_byLot_1 7 rfl rfl)
theorem dX1_byLot_31 : decode cX1_byLot 31 = .ok (.l2i, 1) := dk_136 (dk_at dksX1_byLot_1 8 rfl rfl)
theorem dX1_byLot_32 : decode cX1_byLot 32 = .ok (.iadd, 1) := dk_96 (dk_at dksX1_byLot_1 9 rfl rfl)
theorem dX1_byLot_33 : decode cX1_byLot 33 = .ok (.istore 5, 2) := dk_54 5 (dk_at dksX1_byLot_1 10 rfl rfl)
theorem dX1_byLot_35 : decode cX1_byLot 35 = .ok (.aload_n 0, 1) := dk_42 (dk_at dksX1_byLot_1 12 rfl rfl)
theorem dX1_byLot_36 : decode cX1_byLot 36 = .ok (.getfield 7, 3) := dk_180 0 7 (dk_at dksX1_byLot_1 13 rfl rfl)
theorem dX1_byLot_39 : decode cX1_byLot 39 = .ok (.bipush 9, 2) := dk_16 9 (dk_at dksX1_byLot_1 16 rfl rfl)
theorem dX1_byLot_41 : decode cX1_byLot 41 = .ok (.iload_n 3, 1) := dk_29 (dk_at dksX1_byLot_1 18 rfl rfl)
theorem dX1_byLot_42 : decode cX1_byLot 42 = .ok (.iadd, 1) := dk_96 (dk_at dksX1_byLot_1 19 rfl rfl)
theorem dX1_byLot_43 : decode cX1_byLot 43 = .ok (.iaload, 1) := dk_46 (dk_at dksX1_byLot_1 20 rfl rfl)
theorem dX1_byLot_44 : decode cX1_byLot 44 = .ok (.istore 6, 2) := dk_54 6 (dk_at dksX1_byLot_1 21 rfl rfl)
theorem dX1_byLot_46 : decode cX1_byLot 46 = .ok (.iload 4, 2) := dk_21 4 (dk_at dksX1_byLot_2 0 rfl rfl)
theorem dX1_byLot_48 : decode cX1_byLot 48 = .ok (.iconst 2, 1) := dk_5 (dk_at dksX1_byLot_2 2 rfl rfl)
theorem dX1_byLot_49 : decode cX1_byLot 49 = .ok (.if_icmp .ge 35, 3) := dk_162 0 35 (dk_at dksX1_byLot_2 3 rfl rfl)
theorem dX1_byLot_52 : decode cX1_byLot 52 = .ok (.aload_n 0, 1) := dk_42 (dk_at dksX1_byLot_2 6 rfl rfl)
theorem dX1_byLot_53 : decode cX1_byLot 53 = .ok (.getfield 7, 3) := dk_180 0 7 (dk_at dksX1_byLot_2 7 rfl rfl)
theorem dX1_byLot_56 : decode cX1_byLot 56 = .ok (.bipush 9, 2) := dk_16 9 (dk_at dksX1_byLot_2 10 rfl rfl)
theorem dX1_byLot_58 : decode cX1_byLot 58 = .ok (.iload_n 3, 1) := dk_29 (dk_at dksX1_byLot_2 12 rfl rfl)
theorem dX1_byLot_59 : decode cX1_byLot 59 = .ok (.iadd, 1) := dk_96 (dk_at dksX1_byLot_2 13 rfl rfl)
theorem dX1_byLot_60 : decode cX1_byLot 60 = .ok (.iload 6, 2) := dk_21 6 (dk_at dksX1_byLot_2 14 rfl rfl)
theorem dX1_byLot_62 : decode cX1_byLot 62 = .ok (.iload 5, 2) := dk_21 5 (dk_at dksX1_byLot_2 16 rfl rfl)
theorem dX1_byLot_64 : decode cX1_byLot 64 = .ok (.iadd, 1) := dk_96 (dk_at dksX1_byLot_2 18 rfl rfl)
theorem dX1_byLot_65 : decode cX1_byLot 65 = .ok (.bipush 20, 2) := dk_16 20 (dk_at dksX1_byLot_2 19 rfl rfl)
theorem dX1_byLot_67 : decode cX1_byLot 67 = .ok (.if_icmp .le 8, 3) := dk_164 0 8 (dk_at dksX1_byLot_2 21 rfl rfl)
theorem dX1_byLot_70 : decode cX1_byLot 70 = .ok (.bipush 20, 2) := dk_16 20 (dk_at dksX1_byLot_3 0 rfl rfl)
theorem dX1_byLot_72 : decode cX1_byLot 72 = .ok (.goto 8, 3) := dk_167 0 8 (dk_at dksX1_byLot_3 2 rfl rfl)
theorem dX1_byLot_75 : decode cX1_byLot 75 = .ok (.iload 6, 2) := dk_21 6 (dk_at dksX1_byLot_3 5 rfl rfl)
theorem dX1_byLot_77 : decode cX1_byLot 77 = .ok (.iload 5, 2) := dk_21 5 (dk_at dksX1_byLot_3 7 rfl rfl)
theorem dX1_byLot_79 : decode cX1_byLot 79 = .ok (.iadd, 1) := dk_96 (dk_at dksX1_byLot_3 9 rfl rfl)
theorem dX1_byLot_80 : decode cX1_byLot 80 = .ok (.iastore, 1) := dk_79 (dk_at dksX1_byLot_3 10 rfl rfl)
theorem dX1_byLot_81 : decode cX1_byLot 81 = .ok (.goto 70, 3) := dk_167 0 70 (dk_at dksX1_byLot_3 11 rfl rfl)
theorem dX1_byLot_84 : decode cX1_byLot 84 = .ok (.iload 4, 2) := dk_21 4 (dk_at dksX1_byLot_3 14 rfl rfl)
theorem dX1_byLot_86 : decode cX1_byLot 86 = .ok (.iconst 2, 1) := dk_5 (dk_at dksX1_byLot_3 16 rfl rfl)
theorem dX1_byLot_87 : decode cX1_byLot 87 = .ok (.if_icmp .ne 31, 3) := dk_160 0 31 (dk_at dksX1_byLot_3 17 rfl rfl)
theorem dX1_byLot_90 : decode cX1_byLot 90 = .ok (.aload_n 0, 1) := dk_42 (dk_at dksX1_byLot_3 20 rfl rfl)
theorem dX1_byLot_91 : decode cX1_byLot 91 = .ok (.getfield 7, 3) := dk_180 0 7 (dk_at dksX1_byLot_3 21 rfl rfl)
theorem dX1_byLot_94 : decode cX1_byLot 94 = .ok (.bipush 9, 2) := dk_16 9 (dk_at dksX1_byLot_4 0 rfl rfl)
theorem dX1_byLot_96 : decode cX1_byLot 96 = .ok (.iload_n 3, 1) := dk_29 (dk_at dksX1_byLot_4 2 rfl rfl)
theorem dX1_byLot_97 : decode cX1_byLot 97 = .ok (.iadd, 1) := dk_96 (dk_at dksX1_byLot_4 3 rfl rfl)
theorem dX1_byLot_98 : decode cX1_byLot 98 = .ok (.iload 6, 2) := dk_21 6 (dk_at dksX1_byLot_4 4 rfl rfl)
theorem dX1_byLot_100 : decode cX1_byLot 100 = .ok (.iload 5, 2) := dk_21 5 (dk_at dksX1_byLot_4 6 rfl rfl)
theorem dX1_byLot_102 : decode cX1_byLot 102 = .ok (.if_icmp .ge 7, 3) := dk_162 0 7 (dk_at dksX1_byLot_4 8 rfl rfl)
theorem dX1_byLot_105 : decode cX1_byLot 105 = .ok (.iconst 0, 1) := dk_3 (dk_at dksX1_byLot_4 11 rfl rfl)
theorem dX1_byLot_106 : decode cX1_byLot 106 = .ok (.goto 8, 3) := dk_167 0 8 (dk_at dksX1_byLot_4 12 rfl rfl)
theorem dX1_byLot_109 : decode cX1_byLot 109 = .ok (.iload 6, 2) := dk_21 6 (dk_at dksX1_byLot_4 15 rfl rfl)
theorem dX1_byLot_111 : decode cX1_byLot 111 = .ok (.iload 5, 2) := dk_21 5 (dk_at dksX1_byLot_4 17 rfl rfl)
theorem dX1_byLot_113 : decode cX1_byLot 113 = .ok (.isub, 1) := dk_100 (dk_at dksX1_byLot_4 19 rfl rfl)
theorem dX1_byLot_114 : decode cX1_byLot 114 = .ok (.iastore, 1) := dk_79 (dk_at dksX1_byLot_4 20 rfl rfl)
theorem dX1_byLot_115 : decode cX1_byLot 115 = .ok (.goto 36, 3) := dk_167 0 36 (dk_at dksX1_byLot_4 21 rfl rfl)
theorem dX1_byLot_118 : decode cX1_byLot 118 = .ok (.iload 4, 2) := dk_21 4 (dk_at dksX1_byLot_5 0 rfl rfl)
theorem dX1_byLot_120 : decode cX1_byLot 120 = .ok (.iconst 3, 1) := dk_6 (dk_at dksX1_byLot_5 2 rfl rfl)
theorem dX1_byLot_121 : decode cX1_byLot 121 = .ok (.if_icmp .ne 24, 3) := dk_160 0 24 (dk_at dksX1_byLot_5 3 rfl rfl)
theorem dX1_byLot_124 : decode cX1_byLot 124 = .ok (.aload_n 0, 1) := dk_42 (dk_at dksX1_byLot_5 6 rfl rfl)
theorem dX1_byLot_125 : decode cX1_byLot 125 = .ok (.getfield 7, 3) := dk_180 0 7 (dk_at dksX1_byLot_5 7 rfl rfl)
theorem dX1_byLot_128 : decode cX1_byLot 128 = .ok (.iconst 3, 1) := dk_6 (dk_at dksX1_byLot_5 10 rfl rfl)
theorem dX1_byLot_129 : decode cX1_byLot 129 = .ok (.iload_n 3, 1) := dk_29 (dk_at dksX1_byLot_5 11 rfl rfl)
theorem dX1_byLot_130 : decode cX1_byLot 130 = .ok (.iadd, 1) := dk_96 (dk_at dksX1_byLot_5 12 rfl rfl)
theorem dX1_byLot_131 : decode cX1_byLot 131 = .ok (.lload_n 1, 1) := dk_31 (dk_at dksX1_byLot_5 13 rfl rfl)
theorem dX1_byLot_132 : decode cX1_byLot 132 = .ok (.ldc2_w 268, 3) := dk_20 1 12 (dk_at dksX1_byLot_5 14 rfl rfl)
theorem dX1_byLot_135 : decode cX1_byLot 135 = .ok (.ldiv, 1) := dk_109 (dk_at dksX1_byLot_5 17 rfl rfl)
theorem dX1_byLot_136 : decode cX1_byLot 136 = .ok (.ldc2_w 214, 3) := dk_20 0 214 (dk_at dksX1_byLot_5 18 rfl rfl)
theorem dX1_byLot_139 : decode cX1_byLot 139 = .ok (.lrem, 1) := dk_113 (dk_at dksX1_byLot_5 21 rfl rfl)
theorem dX1_byLot_140 : decode cX1_byLot 140 = .ok (.l2i, 1) := dk_136 (dk_at dksX1_byLot_5 22 rfl rfl)
theorem dX1_byLot_141 : decode cX1_byLot 141 = .ok (.iastore, 1) := dk_79 (dk_at dksX1_byLot_5 23 rfl rfl)
theorem dX1_byLot_142 : decode cX1_byLot 142 = .ok (.goto 9, 3) := dk_167 0 9 (dk_at dksX1_byLot_6 0 rfl rfl)
theorem dX1_byLot_145 : decode cX1_byLot 145 = .ok (.aload_n 0, 1) := dk_42 (dk_at dksX1_byLot_6 3 rfl rfl)
theorem dX1_byLot_146 : decode cX1_byLot 146 = .ok (.iconst 0, 1) := dk_3 (dk_at dksX1_byLot_6 4 rfl rfl)
theorem dX1_byLot_147 : decode cX1_byLot 147 = .ok (.invokevirtual 177, 3) := dk_182 0 177 (dk_at dksX1_byLot_6 5 rfl rfl)
theorem dX1_byLot_150 : decode cX1_byLot 150 = .ok (.pop, 1) := dk_87 (dk_at dksX1_byLot_6 8 rfl rfl)
theorem dX1_byLot_151 : decode cX1_byLot 151 = .ok (.return_, 1) := dk_177 (dk_at dksX1_byLot_6 9 rfl rfl)
abbrev cX1_asked : ByteArray := prog_10_method_86_code
def yX1_asked : MethodName := ⟨RX1, "asked", "()I"⟩
theorem dX1_asked_0 : decode cX1_asked 0 = .ok (.aload_n 0, 1) := by decide +kernel
theorem dX1_asked_1 : decode cX1_asked 1 = .ok (.getfield 54, 3) := by decide +kernel
theorem dX1_asked_4 : decode cX1_asked 4 = .ok (.ireturn, 1) := by decide +kernel
abbrev cX1_upper : ByteArray := prog_10_method_87_code
def yX1_upper : MethodName := ⟨RX1, "upper", "()J"⟩
theorem dX1_upper_0 : decode cX1_upper 0 = .ok (.aload_n 0, 1) := by decide +kernel
theorem dX1_upper_1 : decode cX1_upper 1 = .ok (.getfield 239, 3) := by decide +kernel
theorem dX1_upper_4 : decode cX1_upper 4 = .ok (.lreturn, 1) := by decide +kernel
abbrev cX1_lower : ByteArray := prog_10_method_88_code
def yX1_lower : MethodName := ⟨RX1, "lower", "()J"⟩
theorem dX1_lower_0 : decode cX1_lower 0 = .ok (.aload_n 0, 1) := by decide +kernel
theorem dX1_lower_1 : decode cX1_lower 1 = .ok (.getfield 28, 3) := by decide +kernel
theorem dX1_lower_4 : decode cX1_lower 4 = .ok (.lreturn, 1) := by decide +kernel
abbrev cX1_count : ByteArray := prog_10_method_93_code
def yX1_count : MethodName := ⟨RX1, "count", "(I)I"⟩
def dkwX1_count_0 : List UInt8 := [27, 133, 9, 20, 1, 33, 184, 0, 59, 153, 0, 11, 42, 27, 182, 1, 35, 167, 0, 4, 2, 172]
abbrev dktX1_count_0 : List UInt8 := dkwX1_count_0 ++ []
theorem dksX1_count_0 : cX1_count.data.toList.drop 0 = dktX1_count_0 := by decide +kernel
theorem dX1_count_0 : decode cX1_count 0 = .ok (.iload_n 1, 1) := dk_27 (dk_at dksX1_count_0 0 rfl rfl)
theorem dX1_count_1 : decode cX1_count 1 = .ok (.i2l, 1) := dk_133 (dk_at dksX1_count_0 1 rfl rfl)
theorem dX1_count_2 : decode cX1_count 2 = .ok (.lconst 0, 1) := dk_9 (dk_at dksX1_count_0 2 rfl rfl)
theorem dX1_count_3 : decode cX1_count 3 = .ok (.ldc2_w 289, 3) := dk_20 1 33 (dk_at dksX1_count_0 3 rfl rfl)
theorem dX1_count_6 : decode cX1_count 6 = .ok (.invokestatic 59, 3) := dk_184 0 59 (dk_at dksX1_count_0 6 rfl rfl)
theorem dX1_count_9 : decode cX1_count 9 = .ok (.ifCond .eq 11, 3) := dk_153 0 11 (dk_at dksX1_count_0 9 rfl rfl)
theorem dX1_count_12 : decode cX1_count 12 = .ok (.aload_n 0, 1) := dk_42 (dk_at dksX1_count_0 12 rfl rfl)
theorem dX1_count_13 : decode cX1_count 13 = .ok (.iload_n 1, 1) := dk_27 (dk_at dksX1_count_0 13 rfl rfl)
theorem dX1_count_14 : decode cX1_count 14 = .ok (.invokevirtual 291, 3) := dk_182 1 35 (dk_at dksX1_count_0 14 rfl rfl)
theorem dX1_count_17 : decode cX1_count 17 = .ok (.goto 4, 3) := dk_167 0 4 (dk_at dksX1_count_0 17 rfl rfl)
theorem dX1_count_20 : decode cX1_count 20 = .ok (.iconst (-1), 1) := dk_2 (dk_at dksX1_count_0 20 rfl rfl)
theorem dX1_count_21 : decode cX1_count 21 = .ok (.ireturn, 1) := dk_172 (dk_at dksX1_count_0 21 rfl rfl)
abbrev cX1_countOf : ByteArray := prog_10_method_92_code
def yX1_countOf : MethodName := ⟨RX1, "countOf", "(I)I"⟩
def dkwX1_countOf_5 : List UInt8 := [182, 1, 30, 172]
abbrev dktX1_countOf_5 : List UInt8 := dkwX1_countOf_5 ++ []
def dkwX1_countOf_4 : List UInt8 := [100, 182, 0, 236, 172, 42, 182, 1, 24, 172, 42, 5, 182, 1, 27, 172, 42, 6, 182, 1, 27, 172, 42, 27]
abbrev dktX1_countOf_4 : List UInt8 := dkwX1_countOf_4 ++ dktX1_countOf_5
def dkwX1_countOf_3 : List UInt8 := [46, 172, 28, 16, 247, 160, 0, 7, 3, 167, 0, 6, 4, 28, 120, 172, 42, 4, 42, 180, 0, 136, 120, 4]
abbrev dktX1_countOf_3 : List UInt8 := dkwX1_countOf_3 ++ dktX1_countOf_4
def dkwX1_countOf_2 : List UInt8 := [42, 180, 0, 136, 172, 42, 180, 0, 7, 4, 46, 172, 42, 180, 0, 7, 3, 46, 172, 42, 180, 0, 7, 5]
abbrev dktX1_countOf_2 : List UInt8 := dkwX1_countOf_2 ++ dktX1_countOf_3
def dkwX1_countOf_1 : List UInt8 := [170, 0, 0, 0, 0, 0, 0, 122, 0, 0, 0, 0, 0, 0, 0, 8, 0, 0, 0, 52, 0, 0, 0, 57, 0, 0, 0, 64, 0, 0, 0, 71, 0, 0, 0, 78, 0, 0, 0, 92, 0, 0, 0, 105, 0, 0, 0, 110, 0, 0, 0, 116]
abbrev dktX1_countOf_1 : List UInt8 := dkwX1_countOf_1 ++ dktX1_countOf_2
def dkwX1_countOf_0 : List UInt8 := [42, 3, 3, 182, 0, 156, 61, 27]
abbrev dktX1_countOf_0 : List UInt8 := dkwX1_countOf_0 ++ dktX1_countOf_1
theorem dksX1_countOf_0 : cX1_countOf.data.toList.drop 0 = dktX1_countOf_0 := by decide +kernel
theorem dksX1_countOf_1 : cX1_countOf.data.toList.drop 8 = dktX1_countOf_1 := dk_seg dksX1_countOf_0 8 rfl rfl
theorem dksX1_countOf_2 : cX1_countOf.data.toList.drop 60 = dktX1_countOf_2 := dk_seg dksX1_countOf_1 52 rfl rfl
theorem dksX1_countOf_3 : cX1_countOf.data.toList.drop 84 = dktX1_countOf_3 := dk_seg dksX1_countOf_2 24 rfl rfl
theorem dksX1_countOf_4 : cX1_countOf.data.toList.drop 108 = dktX1_countOf_4 := dk_seg dksX1_countOf_3 24 rfl rfl
theorem dksX1_countOf_5 : cX1_countOf.data.toList.drop 132 = dktX1_countOf_5 := dk_seg dksX1_countOf_4 24 rfl rfl
theorem dX1_countOf_0 : decode cX1_countOf 0 = .ok (.aload_n 0, 1) := dk_42 (dk_at dksX1_countOf_0 0 rfl rfl)
theorem dX1_countOf_1 : decode cX1_countOf 1 = .ok (.iconst 0, 1) := dk_3 (dk_at dksX1_countOf_0 1 rfl rfl)
theorem dX1_countOf_2 : decode cX1_countOf 2 = .ok (.iconst 0, 1) := dk_3 (dk_at dksX1_countOf_0 2 rfl rfl)
theorem dX1_countOf_3 : decode cX1_countOf 3 = .ok (.invokevirtual 156, 3) := dk_182 0 156 (dk_at dksX1_countOf_0 3 rfl rfl)
theorem dX1_countOf_6 : decode cX1_countOf 6 = .ok (.istore_n 2, 1) := dk_61 (dk_at dksX1_countOf_0 6 rfl rfl)
theorem dX1_countOf_7 : decode cX1_countOf 7 = .ok (.iload_n 1, 1) := dk_27 (dk_at dksX1_countOf_0 7 rfl rfl)
theorem dX1_countOf_8 : decode cX1_countOf 8 = .ok (.tableswitch 122 0 8 #[52, 57, 64, 71, 78, 92, 105, 110, 116], 52) := by decide +kernel
theorem dX1_countOf_60 : decode cX1_countOf 60 = .ok (.aload_n 0, 1) := dk_42 (dk_at dksX1_countOf_2 0 rfl rfl)
theorem dX1_countOf_61 : decode cX1_countOf 61 = .ok (.getfield 136, 3) := dk_180 0 136 (dk_at dksX1_countOf_2 1 rfl rfl)
theorem dX1_countOf_64 : decode cX1_countOf 64 = .ok (.ireturn, 1) := dk_172 (dk_at dksX1_countOf_2 4 rfl rfl)
theorem dX1_countOf_65 : decode cX1_countOf 65 = .ok (.aload_n 0, 1) := dk_42 (dk_at dksX1_countOf_2 5 rfl rfl)
theorem dX1_countOf_66 : decode cX1_countOf 66 = .ok (.getfield 7, 3) := dk_180 0 7 (dk_at dksX1_countOf_2 6 rfl rfl)
theorem dX1_countOf_69 : decode cX1_countOf 69 = .ok (.iconst 1, 1) := dk_4 (dk_at dksX1_countOf_2 9 rfl rfl)
theorem dX1_countOf_70 : decode cX1_countOf 70 = .ok (.iaload, 1) := dk_46 (dk_at dksX1_countOf_2 10 rfl rfl)
theorem dX1_countOf_71 : decode cX1_countOf 71 = .ok (.ireturn, 1) := dk_172 (dk_at dksX1_countOf_2 11 rfl rfl)
theorem dX1_countOf_72 : decode cX1_countOf 72 = .ok (.aload_n 0, 1) := dk_42 (dk_at dksX1_countOf_2 12 rfl rfl)
theorem dX1_countOf_73 : decode cX1_countOf 73 = .ok (.getfield 7, 3) := dk_180 0 7 (dk_at dksX1_countOf_2 13 rfl rfl)
theorem dX1_countOf_76 : decode cX1_countOf 76 = .ok (.iconst 0, 1) := dk_3 (dk_at dksX1_countOf_2 16 rfl rfl)
theorem dX1_countOf_77 : decode cX1_countOf 77 = .ok (.iaload, 1) := dk_46 (dk_at dksX1_countOf_2 17 rfl rfl)
theorem dX1_countOf_78 : decode cX1_countOf 78 = .ok (.ireturn, 1) := dk_172 (dk_at dksX1_countOf_2 18 rfl rfl)
theorem dX1_countOf_79 : decode cX1_countOf 79 = .ok (.aload_n 0, 1) := dk_42 (dk_at dksX1_countOf_2 19 rfl rfl)
theorem dX1_countOf_80 : decode cX1_countOf 80 = .ok (.getfield 7, 3) := dk_180 0 7 (dk_at dksX1_countOf_2 20 rfl rfl)
theorem dX1_countOf_83 : decode cX1_countOf 83 = .ok (.iconst 2, 1) := dk_5 (dk_at dksX1_countOf_2 23 rfl rfl)
theorem dX1_countOf_84 : decode cX1_countOf 84 = .ok (.iaload, 1) := dk_46 (dk_at dksX1_countOf_3 0 rfl rfl)
theorem dX1_countOf_85 : decode cX1_countOf 85 = .ok (.ireturn, 1) := dk_172 (dk_at dksX1_countOf_3 1 rfl rfl)
theorem dX1_countOf_86 : decode cX1_countOf 86 = .ok (.iload_n 2, 1) := dk_28 (dk_at dksX1_countOf_3 2 rfl rfl)
theorem dX1_countOf_87 : decode cX1_countOf 87 = .ok (.bipush (-9), 2) := dk_16 247 (dk_at dksX1_countOf_3 3 rfl rfl)
theorem dX1_countOf_89 : decode cX1_countOf 89 = .ok (.if_icmp .ne 7, 3) := dk_160 0 7 (dk_at dksX1_countOf_3 5 rfl rfl)
theorem dX1_countOf_92 : decode cX1_countOf 92 = .ok (.iconst 0, 1) := dk_3 (dk_at dksX1_countOf_3 8 rfl rfl)
theorem dX1_countOf_93 : decode cX1_countOf 93 = .ok (.goto 6, 3) := dk_167 0 6 (dk_at dksX1_countOf_3 9 rfl rfl)
theorem dX1_countOf_96 : decode cX1_countOf 96 = .ok (.iconst 1, 1) := dk_4 (dk_at dksX1_countOf_3 12 rfl rfl)
theorem dX1_countOf_97 : decode cX1_countOf 97 = .ok (.iload_n 2, 1) := dk_28 (dk_at dksX1_countOf_3 13 rfl rfl)
theorem dX1_countOf_98 : decode cX1_countOf 98 = .ok (.ishl, 1) := dk_120 (dk_at dksX1_countOf_3 14 rfl rfl)
theorem dX1_countOf_99 : decode cX1_countOf 99 = .ok (.ireturn, 1) := dk_172 (dk_at dksX1_countOf_3 15 rfl rfl)
theorem dX1_countOf_100 : decode cX1_countOf 100 = .ok (.aload_n 0, 1) := dk_42 (dk_at dksX1_countOf_3 16 rfl rfl)
theorem dX1_countOf_101 : decode cX1_countOf 101 = .ok (.iconst 1, 1) := dk_4 (dk_at dksX1_countOf_3 17 rfl rfl)
theorem dX1_countOf_102 : decode cX1_countOf 102 = .ok (.aload_n 0, 1) := dk_42 (dk_at dksX1_countOf_3 18 rfl rfl)
theorem dX1_countOf_103 : decode cX1_countOf 103 = .ok (.getfield 136, 3) := dk_180 0 136 (dk_at dksX1_countOf_3 19 rfl rfl)
theorem dX1_countOf_106 : decode cX1_countOf 106 = .ok (.ishl, 1) := dk_120 (dk_at dksX1_countOf_3 22 rfl rfl)
theorem dX1_countOf_107 : decode cX1_countOf 107 = .ok (.iconst 1, 1) := dk_4 (dk_at dksX1_countOf_3 23 rfl rfl)
theorem dX1_countOf_108 : decode cX1_countOf 108 = .ok (.isub, 1) := dk_100 (dk_at dksX1_countOf_4 0 rfl rfl)
theorem dX1_countOf_109 : decode cX1_countOf 109 = .ok (.invokevirtual 236, 3) := dk_182 0 236 (dk_at dksX1_countOf_4 1 rfl rfl)
theorem dX1_countOf_112 : decode cX1_countOf 112 = .ok (.ireturn, 1) := dk_172 (dk_at dksX1_countOf_4 4 rfl rfl)
theorem dX1_countOf_113 : decode cX1_countOf 113 = .ok (.aload_n 0, 1) := dk_42 (dk_at dksX1_countOf_4 5 rfl rfl)
theorem dX1_countOf_114 : decode cX1_countOf 114 = .ok (.invokevirtual 280, 3) := dk_182 1 24 (dk_at dksX1_countOf_4 6 rfl rfl)
theorem dX1_countOf_117 : decode cX1_countOf 117 = .ok (.ireturn, 1) := dk_172 (dk_at dksX1_countOf_4 9 rfl rfl)
theorem dX1_countOf_118 : decode cX1_countOf 118 = .ok (.aload_n 0, 1) := dk_42 (dk_at dksX1_countOf_4 10 rfl rfl)
theorem dX1_countOf_119 : decode cX1_countOf 119 = .ok (.iconst 2, 1) := dk_5 (dk_at dksX1_countOf_4 11 rfl rfl)
theorem dX1_countOf_120 : decode cX1_countOf 120 = .ok (.invokevirtual 283, 3) := dk_182 1 27 (dk_at dksX1_countOf_4 12 rfl rfl)
theorem dX1_countOf_123 : decode cX1_countOf 123 = .ok (.ireturn, 1) := dk_172 (dk_at dksX1_countOf_4 15 rfl rfl)
theorem dX1_countOf_124 : decode cX1_countOf 124 = .ok (.aload_n 0, 1) := dk_42 (dk_at dksX1_countOf_4 16 rfl rfl)
theorem dX1_countOf_125 : decode cX1_countOf 125 = .ok (.iconst 3, 1) := dk_6 (dk_at dksX1_countOf_4 17 rfl rfl)
theorem dX1_countOf_126 : decode cX1_countOf 126 = .ok (.invokevirtual 283, 3) := dk_182 1 27 (dk_at dksX1_countOf_4 18 rfl rfl)
theorem dX1_countOf_129 : decode cX1_countOf 129 = .ok (.ireturn, 1) := dk_172 (dk_at dksX1_countOf_4 21 rfl rfl)
theorem dX1_countOf_130 : decode cX1_countOf 130 = .ok (.aload_n 0, 1) := dk_42 (dk_at dksX1_countOf_4 22 rfl rfl)
theorem dX1_countOf_131 : decode cX1_countOf 131 = .ok (.iload_n 1, 1) := dk_27 (dk_at dksX1_countOf_4 23 rfl rfl)
theorem dX1_countOf_132 : decode cX1_countOf 132 = .ok (.invokevirtual 286, 3) := dk_182 1 30 (dk_at dksX1_countOf_5 0 rfl rfl)
theorem dX1_countOf_135 : decode cX1_countOf 135 = .ok (.ireturn, 1) := dk_172 (dk_at dksX1_countOf_5 3 rfl rfl)
abbrev cX1_crossedByAll : ByteArray := prog_10_method_90_code
def yX1_crossedByAll : MethodName := ⟨RX1, "crossedByAll", "()I"⟩
def dkwX1_crossedByAll_1 : List UInt8 := [132, 2, 1, 167, 255, 233, 27, 172]
abbrev dktX1_crossedByAll_1 : List UInt8 := dkwX1_crossedByAll_1 ++ []
def dkwX1_crossedByAll_0 : List UInt8 := [3, 60, 3, 61, 28, 42, 180, 0, 136, 162, 0, 21, 27, 42, 180, 0, 7, 16, 15, 28, 96, 46, 96, 60]
abbrev dktX1_crossedByAll_0 : List UInt8 := dkwX1_crossedByAll_0 ++ dktX1_crossedByAll_1
theorem dksX1_crossedByAll_0 : cX1_crossedByAll.data.toList.drop 0 = dktX1_crossedByAll_0 := by decide +kernel
theorem dksX1_crossedByAll_1 : cX1_crossedByAll.data.toList.drop 24 = dktX1_crossedByAll_1 := dk_seg dksX1_crossedByAll_0 24 rfl rfl
theorem dX1_crossedByAll_0 : decode cX1_crossedByAll 0 = .ok (.iconst 0, 1) := dk_3 (dk_at dksX1_crossedByAll_0 0 rfl rfl)
theorem dX1_crossedByAll_1 : decode cX1_crossedByAll 1 = .ok (.istore_n 1, 1) := dk_60 (dk_at dksX1_crossedByAll_0 1 rfl rfl)
theorem dX1_crossedByAll_2 : decode cX1_crossedByAll 2 = .ok (.iconst 0, 1) := dk_3 (dk_at dksX1_crossedByAll_0 2 rfl rfl)
theorem dX1_crossedByAll_3 : decode cX1_crossedByAll 3 = .ok (.istore_n 2, 1) := dk_61 (dk_at dksX1_crossedByAll_0 3 rfl rfl)
theorem dX1_crossedByAll_4 : decode cX1_crossedByAll 4 = .ok (.iload_n 2, 1) := dk_28 (dk_at dksX1_crossedByAll_0 4 rfl rfl)
theorem dX1_crossedByAll_5 : decode cX1_crossedByAll 5 = .ok (.aload_n 0, 1) := dk_42 (dk_at dksX1_crossedByAll_0 5 rfl rfl)
theorem dX1_crossedByAll_6 : decode cX1_crossedByAll 6 = .ok (.getfield 136, 3) := dk_180 0 136 (dk_at dksX1_crossedByAll_0 6 rfl rfl)
theorem dX1_crossedByAll_9 : decode cX1_crossedByAll 9 = .ok (.if_icmp .ge 21, 3) := dk_162 0 21 (dk_at dksX1_crossedByAll_0 9 rfl rfl)
theorem dX1_crossedByAll_12 : decode cX1_crossedByAll 12 = .ok (.iload_n 1, 1) := dk_27 (dk_at dksX1_crossedByAll_0 12 rfl rfl)
theorem dX1_crossedByAll_13 : decode cX1_crossedByAll 13 = .ok (.aload_n 0, 1) := dk_42 (dk_at dksX1_crossedByAll_0 13 rfl rfl)
theorem dX1_crossedByAll_14 : decode cX1_crossedByAll 14 = .ok (.getfield 7, 3) := dk_180 0 7 (dk_at dksX1_crossedByAll_0 14 rfl rfl)
theorem dX1_crossedByAll_17 : decode cX1_crossedByAll 17 = .ok (.bipush 15, 2) := dk_16 15 (dk_at dksX1_crossedByAll_0 17 rfl rfl)
theorem dX1_crossedByAll_19 : decode cX1_crossedByAll 19 = .ok (.iload_n 2, 1) := dk_28 (dk_at dksX1_crossedByAll_0 19 rfl rfl)
theorem dX1_crossedByAll_20 : decode cX1_crossedByAll 20 = .ok (.iadd, 1) := dk_96 (dk_at dksX1_crossedByAll_0 20 rfl rfl)
theorem dX1_crossedByAll_21 : decode cX1_crossedByAll 21 = .ok (.iaload, 1) := dk_46 (dk_at dksX1_crossedByAll_0 21 rfl rfl)
theorem dX1_crossedByAll_22 : decode cX1_crossedByAll 22 = .ok (.iadd, 1) := dk_96 (dk_at dksX1_crossedByAll_0 22 rfl rfl)
theorem dX1_crossedByAll_23 : decode cX1_crossedByAll 23 = .ok (.istore_n 1, 1) := dk_60 (dk_at dksX1_crossedByAll_0 23 rfl rfl)
theorem dX1_crossedByAll_24 : decode cX1_crossedByAll 24 = .ok (.iinc 2 1, 3) := dk_132 2 1 (dk_at dksX1_crossedByAll_1 0 rfl rfl)
theorem dX1_crossedByAll_27 : decode cX1_crossedByAll 27 = .ok (.goto (-23), 3) := dk_167 255 233 (dk_at dksX1_crossedByAll_1 3 rfl rfl)
theorem dX1_crossedByAll_30 : decode cX1_crossedByAll 30 = .ok (.iload_n 1, 1) := dk_27 (dk_at dksX1_crossedByAll_1 6 rfl rfl)
theorem dX1_crossedByAll_31 : decode cX1_crossedByAll 31 = .ok (.ireturn, 1) := dk_172 (dk_at dksX1_crossedByAll_1 7 rfl rfl)
abbrev cX1_those : ByteArray := prog_10_method_89_code
def yX1_those : MethodName := ⟨RX1, "those", "(I)I"⟩
def dkwX1_those_1 : List UInt8 := [167, 0, 4, 3, 96, 61, 132, 3, 1, 167, 255, 228, 28, 172]
abbrev dktX1_those_1 : List UInt8 := dkwX1_those_1 ++ []
def dkwX1_those_0 : List UInt8 := [3, 61, 3, 62, 29, 42, 180, 0, 136, 162, 0, 26, 28, 42, 29, 27, 182, 0, 168, 153, 0, 7, 4]
abbrev dktX1_those_0 : List UInt8 := dkwX1_those_0 ++ dktX1_those_1
theorem dksX1_those_0 : cX1_those.data.toList.drop 0 = dktX1_those_0 := by decide +kernel
theorem dksX1_those_1 : cX1_those.data.toList.drop 23 = dktX1_those_1 := dk_seg dksX1_those_0 23 rfl rfl
theorem dX1_those_0 : decode cX1_those 0 = .ok (.iconst 0, 1) := dk_3 (dk_at dksX1_those_0 0 rfl rfl)
theorem dX1_those_1 : decode cX1_those 1 = .ok (.istore_n 2, 1) := dk_61 (dk_at dksX1_those_0 1 rfl rfl)
theorem dX1_those_2 : decode cX1_those 2 = .ok (.iconst 0, 1) := dk_3 (dk_at dksX1_those_0 2 rfl rfl)
theorem dX1_those_3 : decode cX1_those 3 = .ok (.istore_n 3, 1) := dk_62 (dk_at dksX1_those_0 3 rfl rfl)
theorem dX1_those_4 : decode cX1_those 4 = .ok (.iload_n 3, 1) := dk_29 (dk_at dksX1_those_0 4 rfl rfl)
theorem dX1_those_5 : decode cX1_those 5 = .ok (.aload_n 0, 1) := dk_42 (dk_at dksX1_those_0 5 rfl rfl)
theorem dX1_those_6 : decode cX1_those 6 = .ok (.getfield 136, 3) := dk_180 0 136 (dk_at dksX1_those_0 6 rfl rfl)
theorem dX1_those_9 : decode cX1_those 9 = .ok (.if_icmp .ge 26, 3) := dk_162 0 26 (dk_at dksX1_those_0 9 rfl rfl)
theorem dX1_those_12 : decode cX1_those 12 = .ok (.iload_n 2, 1) := dk_28 (dk_at dksX1_those_0 12 rfl rfl)
theorem dX1_those_13 : decode cX1_those 13 = .ok (.aload_n 0, 1) := dk_42 (dk_at dksX1_those_0 13 rfl rfl)
theorem dX1_those_14 : decode cX1_those 14 = .ok (.iload_n 3, 1) := dk_29 (dk_at dksX1_those_0 14 rfl rfl)
theorem dX1_those_15 : decode cX1_those 15 = .ok (.iload_n 1, 1) := dk_27 (dk_at dksX1_those_0 15 rfl rfl)
theorem dX1_those_16 : decode cX1_those 16 = .ok (.invokevirtual 168, 3) := dk_182 0 168 (dk_at dksX1_those_0 16 rfl rfl)
theorem dX1_those_19 : decode cX1_those 19 = .ok (.ifCond .eq 7, 3) := dk_153 0 7 (dk_at dksX1_those_0 19 rfl rfl)
theorem dX1_those_22 : decode cX1_those 22 = .ok (.iconst 1, 1) := dk_4 (dk_at dksX1_those_0 22 rfl rfl)
theorem dX1_those_23 : decode cX1_those 23 = .ok (.goto 4, 3) := dk_167 0 4 (dk_at dksX1_those_1 0 rfl rfl)
theorem dX1_those_26 : decode cX1_those 26 = .ok (.iconst 0, 1) := dk_3 (dk_at dksX1_those_1 3 rfl rfl)
theorem dX1_those_27 : decode cX1_those 27 = .ok (.iadd, 1) := dk_96 (dk_at dksX1_those_1 4 rfl rfl)
theorem dX1_those_28 : decode cX1_those 28 = .ok (.istore_n 2, 1) := dk_61 (dk_at dksX1_those_1 5 rfl rfl)
theorem dX1_those_29 : decode cX1_those 29 = .ok (.iinc 3 1, 3) := dk_132 3 1 (dk_at dksX1_those_1 6 rfl rfl)
theorem dX1_those_32 : decode cX1_those 32 = .ok (.goto (-28), 3) := dk_167 255 228 (dk_at dksX1_those_1 9 rfl rfl)
theorem dX1_those_35 : decode cX1_those 35 = .ok (.iload_n 2, 1) := dk_28 (dk_at dksX1_those_1 12 rfl rfl)
theorem dX1_those_36 : decode cX1_those 36 = .ok (.ireturn, 1) := dk_172 (dk_at dksX1_those_1 13 rfl rfl)
abbrev cX1_thereOf : ByteArray := prog_10_method_91_code
def yX1_thereOf : MethodName := ⟨RX1, "thereOf", "(I)I"⟩
def dkwX1_thereOf_4 : List UInt8 := [132, 3, 1, 167, 255, 166, 28, 172]
abbrev dktX1_thereOf_4 : List UInt8 := dkwX1_thereOf_4 ++ []
def dkwX1_thereOf_3 : List UInt8 := [180, 0, 7, 17, 3, 53, 4, 29, 96, 104, 3, 96, 46, 155, 0, 7, 4, 167, 0, 4, 3, 96, 61]
abbrev dktX1_thereOf_3 : List UInt8 := dkwX1_thereOf_3 ++ dktX1_thereOf_4
def dkwX1_thereOf_2 : List UInt8 := [180, 0, 22, 29, 46, 155, 0, 7, 4, 167, 0, 34, 3, 167, 0, 30, 29, 6, 162, 0, 24, 42]
abbrev dktX1_thereOf_2 : List UInt8 := dkwX1_thereOf_2 ++ dktX1_thereOf_3
def dkwX1_thereOf_1 : List UInt8 := [156, 0, 7, 3, 167, 0, 62, 4, 167, 0, 58, 27, 16, 10, 160, 0, 25, 29, 7, 162, 0, 16, 42]
abbrev dktX1_thereOf_1 : List UInt8 := dkwX1_thereOf_1 ++ dktX1_thereOf_2
def dkwX1_thereOf_0 : List UInt8 := [3, 61, 3, 62, 29, 16, 6, 162, 0, 90, 28, 27, 16, 9, 160, 0, 20, 42, 180, 0, 16, 29, 46]
abbrev dktX1_thereOf_0 : List UInt8 := dkwX1_thereOf_0 ++ dktX1_thereOf_1
theorem dksX1_thereOf_0 : cX1_thereOf.data.toList.drop 0 = dktX1_thereOf_0 := by decide +kernel
theorem dksX1_thereOf_1 : cX1_thereOf.data.toList.drop 23 = dktX1_thereOf_1 := dk_seg dksX1_thereOf_0 23 rfl rfl
theorem dksX1_thereOf_2 : cX1_thereOf.data.toList.drop 46 = dktX1_thereOf_2 := dk_seg dksX1_thereOf_1 23 rfl rfl
theorem dksX1_thereOf_3 : cX1_thereOf.data.toList.drop 68 = dktX1_thereOf_3 := dk_seg dksX1_thereOf_2 22 rfl rfl
theorem dksX1_thereOf_4 : cX1_thereOf.data.toList.drop 91 = dktX1_thereOf_4 := dk_seg dksX1_thereOf_3 23 rfl rfl
theorem dX1_thereOf_0 : decode cX1_thereOf 0 = .ok (.iconst 0, 1) := dk_3 (dk_at dksX1_thereOf_0 0 rfl rfl)
theorem dX1_thereOf_1 : decode cX1_thereOf 1 = .ok (.istore_n 2, 1) := dk_61 (dk_at dksX1_thereOf_0 1 rfl rfl)
theorem dX1_thereOf_2 : decode cX1_thereOf 2 = .ok (.iconst 0, 1) := dk_3 (dk_at dksX1_thereOf_0 2 rfl rfl)
theorem dX1_thereOf_3 : decode cX1_thereOf 3 = .ok (.istore_n 3, 1) := dk_62 (dk_at dksX1_thereOf_0 3 rfl rfl)
theorem dX1_thereOf_4 : decode cX1_thereOf 4 = .ok (.iload_n 3, 1) := dk_29 (dk_at dksX1_thereOf_0 4 rfl rfl)
theorem dX1_thereOf_5 : decode cX1_thereOf 5 = .ok (.bipush 6, 2) := dk_16 6 (dk_at dksX1_thereOf_0 5 rfl rfl)
theorem dX1_thereOf_7 : decode cX1_thereOf 7 = .ok (.if_icmp .ge 90, 3) := dk_162 0 90 (dk_at dksX1_thereOf_0 7 rfl rfl)
theorem dX1_thereOf_10 : decode cX1_thereOf 10 = .ok (.iload_n 2, 1) := dk_28 (dk_at dksX1_thereOf_0 10 rfl rfl)
theorem dX1_thereOf_11 : decode cX1_thereOf 11 = .ok (.iload_n 1, 1) := dk_27 (dk_at dksX1_thereOf_0 11 rfl rfl)
theorem dX1_thereOf_12 : decode cX1_thereOf 12 = .ok (.bipush 9, 2) := dk_16 9 (dk_at dksX1_thereOf_0 12 rfl rfl)
theorem dX1_thereOf_14 : decode cX1_thereOf 14 = .ok (.if_icmp .ne 20, 3) := dk_160 0 20 (dk_at dksX1_thereOf_0 14 rfl rfl)
theorem dX1_thereOf_17 : decode cX1_thereOf 17 = .ok (.aload_n 0, 1) := dk_42 (dk_at dksX1_thereOf_0 17 rfl rfl)
theorem dX1_thereOf_18 : decode cX1_thereOf 18 = .ok (.getfield 16, 3) := dk_180 0 16 (dk_at dksX1_thereOf_0 18 rfl rfl)
theorem dX1_thereOf_21 : decode cX1_thereOf 21 = .ok (.iload_n 3, 1) := dk_29 (dk_at dksX1_thereOf_0 21 rfl rfl)
theorem dX1_thereOf_22 : decode cX1_thereOf 22 = .ok (.iaload, 1) := dk_46 (dk_at dksX1_thereOf_0 22 rfl rfl)
theorem dX1_thereOf_23 : decode cX1_thereOf 23 = .ok (.ifCond .ge 7, 3) := dk_156 0 7 (dk_at dksX1_thereOf_1 0 rfl rfl)
theorem dX1_thereOf_26 : decode cX1_thereOf 26 = .ok (.iconst 0, 1) := dk_3 (dk_at dksX1_thereOf_1 3 rfl rfl)
theorem dX1_thereOf_27 : decode cX1_thereOf 27 = .ok (.goto 62, 3) := dk_167 0 62 (dk_at dksX1_thereOf_1 4 rfl rfl)
theorem dX1_thereOf_30 : decode cX1_thereOf 30 = .ok (.iconst 1, 1) := dk_4 (dk_at dksX1_thereOf_1 7 rfl rfl)
theorem dX1_thereOf_31 : decode cX1_thereOf 31 = .ok (.goto 58, 3) := dk_167 0 58 (dk_at dksX1_thereOf_1 8 rfl rfl)
theorem dX1_thereOf_34 : decode cX1_thereOf 34 = .ok (.iload_n 1, 1) := dk_27 (dk_at dksX1_thereOf_1 11 rfl rfl)
theorem dX1_thereOf_35 : decode cX1_thereOf 35 = .ok (.bipush 10, 2) := dk_16 10 (dk_at dksX1_thereOf_1 12 rfl rfl)
theorem dX1_thereOf_37 : decode cX1_thereOf 37 = .ok (.if_icmp .ne 25, 3) := dk_160 0 25 (dk_at dksX1_thereOf_1 14 rfl rfl)
theorem dX1_thereOf_40 : decode cX1_thereOf 40 = .ok (.iload_n 3, 1) := dk_29 (dk_at dksX1_thereOf_1 17 rfl rfl)
theorem dX1_thereOf_41 : decode cX1_thereOf 41 = .ok (.iconst 4, 1) := dk_7 (dk_at dksX1_thereOf_1 18 rfl rfl)
theorem dX1_thereOf_42 : decode cX1_thereOf 42 = .ok (.if_icmp .ge 16, 3) := dk_162 0 16 (dk_at dksX1_thereOf_1 19 rfl rfl)
theorem dX1_thereOf_45 : decode cX1_thereOf 45 = .ok (.aload_n 0, 1) := dk_42 (dk_at dksX1_thereOf_1 22 rfl rfl)
theorem dX1_thereOf_46 : decode cX1_thereOf 46 = .ok (.getfield 22, 3) := dk_180 0 22 (dk_at dksX1_thereOf_2 0 rfl rfl)
theorem dX1_thereOf_49 : decode cX1_thereOf 49 = .ok (.iload_n 3, 1) := dk_29 (dk_at dksX1_thereOf_2 3 rfl rfl)
theorem dX1_thereOf_50 : decode cX1_thereOf 50 = .ok (.iaload, 1) := dk_46 (dk_at dksX1_thereOf_2 4 rfl rfl)
theorem dX1_thereOf_51 : decode cX1_thereOf 51 = .ok (.ifCond .lt 7, 3) := dk_155 0 7 (dk_at dksX1_thereOf_2 5 rfl rfl)
theorem dX1_thereOf_54 : decode cX1_thereOf 54 = .ok (.iconst 1, 1) := dk_4 (dk_at dksX1_thereOf_2 8 rfl rfl)
theorem dX1_thereOf_55 : decode cX1_thereOf 55 = .ok (.goto 34, 3) := dk_167 0 34 (dk_at dksX1_thereOf_2 9 rfl rfl)
theorem dX1_thereOf_58 : decode cX1_thereOf 58 = .ok (.iconst 0, 1) := dk_3 (dk_at dksX1_thereOf_2 12 rfl rfl)
theorem dX1_thereOf_59 : decode cX1_thereOf 59 = .ok (.goto 30, 3) := dk_167 0 30 (dk_at dksX1_thereOf_2 13 rfl rfl)
theorem dX1_thereOf_62 : decode cX1_thereOf 62 = .ok (.iload_n 3, 1) := dk_29 (dk_at dksX1_thereOf_2 16 rfl rfl)
theorem dX1_thereOf_63 : decode cX1_thereOf 63 = .ok (.iconst 3, 1) := dk_6 (dk_at dksX1_thereOf_2 17 rfl rfl)
theorem dX1_thereOf_64 : decode cX1_thereOf 64 = .ok (.if_icmp .ge 24, 3) := dk_162 0 24 (dk_at dksX1_thereOf_2 18 rfl rfl)
theorem dX1_thereOf_67 : decode cX1_thereOf 67 = .ok (.aload_n 0, 1) := dk_42 (dk_at dksX1_thereOf_2 21 rfl rfl)
theorem dX1_thereOf_68 : decode cX1_thereOf 68 = .ok (.getfield 7, 3) := dk_180 0 7 (dk_at dksX1_thereOf_3 0 rfl rfl)
theorem dX1_thereOf_71 : decode cX1_thereOf 71 = .ok (.sipush 821, 3) := dk_17 3 53 (dk_at dksX1_thereOf_3 3 rfl rfl)
theorem dX1_thereOf_74 : decode cX1_thereOf 74 = .ok (.iconst 1, 1) := dk_4 (dk_at dksX1_thereOf_3 6 rfl rfl)
theorem dX1_thereOf_75 : decode cX1_thereOf 75 = .ok (.iload_n 3, 1) := dk_29 (dk_at dksX1_thereOf_3 7 rfl rfl)
theorem dX1_thereOf_76 : decode cX1_thereOf 76 = .ok (.iadd, 1) := dk_96 (dk_at dksX1_thereOf_3 8 rfl rfl)
theorem dX1_thereOf_77 : decode cX1_thereOf 77 = .ok (.imul, 1) := dk_104 (dk_at dksX1_thereOf_3 9 rfl rfl)
theorem dX1_thereOf_78 : decode cX1_thereOf 78 = .ok (.iconst 0, 1) := dk_3 (dk_at dksX1_thereOf_3 10 rfl rfl)
theorem dX1_thereOf_79 : decode cX1_thereOf 79 = .ok (.iadd, 1) := dk_96 (dk_at dksX1_thereOf_3 11 rfl rfl)
theorem dX1_thereOf_80 : decode cX1_thereOf 80 = .ok (.iaload, 1) := dk_46 (dk_at dksX1_thereOf_3 12 rfl rfl)
theorem dX1_thereOf_81 : decode cX1_thereOf 81 = .ok (.ifCond .lt 7, 3) := dk_155 0 7 (dk_at dksX1_thereOf_3 13 rfl rfl)
theorem dX1_thereOf_84 : decode cX1_thereOf 84 = .ok (.iconst 1, 1) := dk_4 (dk_at dksX1_thereOf_3 16 rfl rfl)
theorem dX1_thereOf_85 : decode cX1_thereOf 85 = .ok (.goto 4, 3) := dk_167 0 4 (dk_at dksX1_thereOf_3 17 rfl rfl)
theorem dX1_thereOf_88 : decode cX1_thereOf 88 = .ok (.iconst 0, 1) := dk_3 (dk_at dksX1_thereOf_3 20 rfl rfl)
theorem dX1_thereOf_89 : decode cX1_thereOf 89 = .ok (.iadd, 1) := dk_96 (dk_at dksX1_thereOf_3 21 rfl rfl)
theorem dX1_thereOf_90 : decode cX1_thereOf 90 = .ok (.istore_n 2, 1) := dk_61 (dk_at dksX1_thereOf_3 22 rfl rfl)
theorem dX1_thereOf_91 : decode cX1_thereOf 91 = .ok (.iinc 3 1, 3) := dk_132 3 1 (dk_at dksX1_thereOf_4 0 rfl rfl)
theorem dX1_thereOf_94 : decode cX1_thereOf 94 = .ok (.goto (-90), 3) := dk_167 255 166 (dk_at dksX1_thereOf_4 3 rfl rfl)
theorem dX1_thereOf_97 : decode cX1_thereOf 97 = .ok (.iload_n 2, 1) := dk_28 (dk_at dksX1_thereOf_4 6 rfl rfl)
theorem dX1_thereOf_98 : decode cX1_thereOf 98 = .ok (.ireturn, 1) := dk_172 (dk_at dksX1_thereOf_4 7 rfl rfl)
abbrev cX1_finding : ByteArray := prog_10_method_94_code
def yX1_finding : MethodName := ⟨RX1, "finding", "()I"⟩
theorem dX1_finding_0 : decode cX1_finding 0 = .ok (.aload_n 0, 1) := by decide +kernel
theorem dX1_finding_1 : decode cX1_finding 1 = .ok (.getfield 50, 3) := by decide +kernel
theorem dX1_finding_4 : decode cX1_finding 4 = .ok (.ireturn, 1) := by decide +kernel
abbrev cX1_findings : ByteArray := prog_10_method_95_code
def yX1_findings : MethodName := ⟨RX1, "findings", "(I)I"⟩
def dkwX1_findings_0 : List UInt8 := [27, 133, 10, 20, 0, 57, 184, 0, 59, 153, 0, 12, 42, 180, 0, 32, 27, 46, 167, 0, 4, 2, 172]
abbrev dktX1_findings_0 : List UInt8 := dkwX1_findings_0 ++ []
theorem dksX1_findings_0 : cX1_findings.data.toList.drop 0 = dktX1_findings_0 := by decide +kernel
theorem dX1_findings_0 : decode cX1_findings 0 = .ok (.iload_n 1, 1) := dk_27 (dk_at dksX1_findings_0 0 rfl rfl)
theorem dX1_findings_1 : decode cX1_findings 1 = .ok (.i2l, 1) := dk_133 (dk_at dksX1_findings_0 1 rfl rfl)
theorem dX1_findings_2 : decode cX1_findings 2 = .ok (.lconst 1, 1) := dk_10 (dk_at dksX1_findings_0 2 rfl rfl)
theorem dX1_findings_3 : decode cX1_findings 3 = .ok (.ldc2_w 57, 3) := dk_20 0 57 (dk_at dksX1_findings_0 3 rfl rfl)
theorem dX1_findings_6 : decode cX1_findings 6 = .ok (.invokestatic 59, 3) := dk_184 0 59 (dk_at dksX1_findings_0 6 rfl rfl)
theorem dX1_findings_9 : decode cX1_findings 9 = .ok (.ifCond .eq 12, 3) := dk_153 0 12 (dk_at dksX1_findings_0 9 rfl rfl)
theorem dX1_findings_12 : decode cX1_findings 12 = .ok (.aload_n 0, 1) := dk_42 (dk_at dksX1_findings_0 12 rfl rfl)
theorem dX1_findings_13 : decode cX1_findings 13 = .ok (.getfield 32, 3) := dk_180 0 32 (dk_at dksX1_findings_0 13 rfl rfl)
theorem dX1_findings_16 : decode cX1_findings 16 = .ok (.iload_n 1, 1) := dk_27 (dk_at dksX1_findings_0 16 rfl rfl)
theorem dX1_findings_17 : decode cX1_findings 17 = .ok (.iaload, 1) := dk_46 (dk_at dksX1_findings_0 17 rfl rfl)
theorem dX1_findings_18 : decode cX1_findings 18 = .ok (.goto 4, 3) := dk_167 0 4 (dk_at dksX1_findings_0 18 rfl rfl)
theorem dX1_findings_21 : decode cX1_findings 21 = .ok (.iconst (-1), 1) := dk_2 (dk_at dksX1_findings_0 21 rfl rfl)
theorem dX1_findings_22 : decode cX1_findings 22 = .ok (.ireturn, 1) := dk_172 (dk_at dksX1_findings_0 22 rfl rfl)
abbrev cX1_digest : ByteArray := prog_10_method_96_code
def yX1_digest : MethodName := ⟨RX1, "digest", "()J"⟩
def dkwX1_digest_10 : List UInt8 := [173]
abbrev dktX1_digest_10 : List UInt8 := dkwX1_digest_10 ++ []
def dkwX1_digest_9 : List UInt8 := [16, 60, 29, 104, 21, 4, 96, 46, 133, 97, 64, 132, 4, 1, 167, 255, 222, 132, 3, 1, 167, 255, 194, 31]
abbrev dktX1_digest_9 : List UInt8 := dkwX1_digest_9 ++ dktX1_digest_10
def dkwX1_digest_8 : List UInt8 := [3, 54, 4, 21, 4, 42, 180, 0, 22, 29, 46, 162, 0, 29, 20, 1, 40, 31, 105, 42, 180, 0, 25]
abbrev dktX1_digest_8 : List UInt8 := dkwX1_digest_8 ++ dktX1_digest_9
def dkwX1_digest_7 : List UInt8 := [167, 255, 193, 3, 62, 29, 7, 162, 0, 63, 20, 1, 40, 31, 105, 42, 180, 0, 22, 29, 46, 133, 97, 64]
abbrev dktX1_digest_7 : List UInt8 := dkwX1_digest_7 ++ dktX1_digest_8
def dkwX1_digest_6 : List UInt8 := [42, 180, 0, 19, 16, 40, 29, 104, 21, 4, 96, 46, 133, 97, 64, 132, 4, 1, 167, 255, 222, 132, 3, 1]
abbrev dktX1_digest_6 : List UInt8 := dkwX1_digest_6 ++ dktX1_digest_7
def dkwX1_digest_5 : List UInt8 := [29, 46, 133, 97, 64, 3, 54, 4, 21, 4, 42, 180, 0, 16, 29, 46, 162, 0, 29, 20, 1, 40, 31, 105]
abbrev dktX1_digest_5 : List UInt8 := dkwX1_digest_5 ++ dktX1_digest_6
def dkwX1_digest_4 : List UInt8 := [64, 132, 3, 1, 167, 255, 228, 3, 62, 29, 16, 6, 162, 0, 63, 20, 1, 40, 31, 105, 42, 180, 0, 16]
abbrev dktX1_digest_4 : List UInt8 := dkwX1_digest_4 ++ dktX1_digest_5
def dkwX1_digest_3 : List UInt8 := [29, 7, 162, 0, 29, 20, 1, 40, 31, 105, 42, 180, 0, 7, 17, 3, 53, 29, 104, 3, 96, 46, 133, 97]
abbrev dktX1_digest_3 : List UInt8 := dkwX1_digest_3 ++ dktX1_digest_4
def dkwX1_digest_2 : List UInt8 := [105, 42, 29, 16, 6, 108, 29, 16, 6, 112, 182, 0, 165, 133, 97, 64, 132, 3, 1, 167, 255, 222, 4, 62]
abbrev dktX1_digest_2 : List UInt8 := dkwX1_digest_2 ++ dktX1_digest_3
def dkwX1_digest_1 : List UInt8 := [64, 132, 3, 1, 167, 255, 234, 3, 62, 29, 16, 6, 42, 180, 0, 136, 104, 162, 0, 29, 20, 1, 40, 31]
abbrev dktX1_digest_1 : List UInt8 := dkwX1_digest_1 ++ dktX1_digest_2
def dkwX1_digest_0 : List UInt8 := [20, 1, 38, 64, 3, 62, 29, 16, 12, 162, 0, 22, 20, 1, 40, 31, 105, 42, 29, 182, 1, 35, 133, 97]
abbrev dktX1_digest_0 : List UInt8 := dkwX1_digest_0 ++ dktX1_digest_1
theorem dksX1_digest_0 : cX1_digest.data.toList.drop 0 = dktX1_digest_0 := by decide +kernel
theorem dksX1_digest_1 : cX1_digest.data.toList.drop 24 = dktX1_digest_1 := dk_seg dksX1_digest_0 24 rfl rfl
theorem dksX1_digest_2 : cX1_digest.data.toList.drop 48 = dktX1_digest_2 := dk_seg dksX1_digest_1 24 rfl rfl
theorem dksX1_digest_3 : cX1_digest.data.toList.drop 72 = dktX1_digest_3 := dk_seg dksX1_digest_2 24 rfl rfl
theorem dksX1_digest_4 : cX1_digest.data.toList.drop 96 = dktX1_digest_4 := dk_seg dksX1_digest_3 24 rfl rfl
theorem dksX1_digest_5 : cX1_digest.data.toList.drop 120 = dktX1_digest_5 := dk_seg dksX1_digest_4 24 rfl rfl
theorem dksX1_digest_6 : cX1_digest.data.toList.drop 144 = dktX1_digest_6 := dk_seg dksX1_digest_5 24 rfl rfl
theorem dksX1_digest_7 : cX1_digest.data.toList.drop 168 = dktX1_digest_7 := dk_seg dksX1_digest_6 24 rfl rfl
theorem dksX1_digest_8 : cX1_digest.data.toList.drop 192 = dktX1_digest_8 := dk_seg dksX1_digest_7 24 rfl rfl
theorem dksX1_digest_9 : cX1_digest.data.toList.drop 215 = dktX1_digest_9 := dk_seg dksX1_digest_8 23 rfl rfl
theorem dksX1_digest_10 : cX1_digest.data.toList.drop 239 = dktX1_digest_10 := dk_seg dksX1_digest_9 24 rfl rfl
theorem dX1_digest_0 : decode cX1_digest 0 = .ok (.ldc2_w 294, 3) := dk_20 1 38 (dk_at dksX1_digest_0 0 rfl rfl)
theorem dX1_digest_3 : decode cX1_digest 3 = .ok (.lstore_n 1, 1) := dk_64 (dk_at dksX1_digest_0 3 rfl rfl)
theorem dX1_digest_4 : decode cX1_digest 4 = .ok (.iconst 0, 1) := dk_3 (dk_at dksX1_digest_0 4 rfl rfl)
theorem dX1_digest_5 : decode cX1_digest 5 = .ok (.istore_n 3, 1) := dk_62 (dk_at dksX1_digest_0 5 rfl rfl)
theorem dX1_digest_6 : decode cX1_digest 6 = .ok (.iload_n 3, 1) := dk_29 (dk_at dksX1_digest_0 6 rfl rfl)
theorem dX1_digest_7 : decode cX1_digest 7 = .ok (.bipush 12, 2) := dk_16 12 (dk_at dksX1_digest_0 7 rfl rfl)
theorem dX1_digest_9 : decode cX1_digest 9 = .ok (.if_icmp .ge 22, 3) := dk_162 0 22 (dk_at dksX1_digest_0 9 rfl rfl)
theorem dX1_digest_12 : decode cX1_digest 12 = .ok (.ldc2_w 296, 3) := dk_20 1 40 (dk_at dksX1_digest_0 12 rfl rfl)
theorem dX1_digest_15 : decode cX1_digest 15 = .ok (.lload_n 1, 1) := dk_31 (dk_at dksX1_digest_0 15 rfl rfl)
theorem dX1_digest_16 : decode cX1_digest 16 = .ok (.lmul, 1) := dk_105 (dk_at dksX1_digest_0 16 rfl rfl)
theorem dX1_digest_17 : decode cX1_digest 17 = .ok (.aload_n 0, 1) := dk_42 (dk_at dksX1_digest_0 17 rfl rfl)
theorem dX1_digest_18 : decode cX1_digest 18 = .ok (.iload_n 3, 1) := dk_29 (dk_at dksX1_digest_0 18 rfl rfl)
theorem dX1_digest_19 : decode cX1_digest 19 = .ok (.invokevirtual 291, 3) := dk_182 1 35 (dk_at dksX1_digest_0 19 rfl rfl)
theorem dX1_digest_22 : decode cX1_digest 22 = .ok (.i2l, 1) := dk_133 (dk_at dksX1_digest_0 22 rfl rfl)
theorem dX1_digest_23 : decode cX1_digest 23 = .ok (.ladd, 1) := dk_97 (dk_at dksX1_digest_0 23 rfl rfl)
theorem dX1_digest_24 : decode cX1_digest 24 = .ok (.lstore_n 1, 1) := dk_64 (dk_at dksX1_digest_1 0 rfl rfl)
theorem dX1_digest_25 : decode cX1_digest 25 = .ok (.iinc 3 1, 3) := dk_132 3 1 (dk_at dksX1_digest_1 1 rfl rfl)
theorem dX1_digest_28 : decode cX1_digest 28 = .ok (.goto (-22), 3) := dk_167 255 234 (dk_at dksX1_digest_1 4 rfl rfl)
theorem dX1_digest_31 : decode cX1_digest 31 = .ok (.iconst 0, 1) := dk_3 (dk_at dksX1_digest_1 7 rfl rfl)
theorem dX1_digest_32 : decode cX1_digest 32 = .ok (.istore_n 3, 1) := dk_62 (dk_at dksX1_digest_1 8 rfl rfl)
theorem dX1_digest_33 : decode cX1_digest 33 = .ok (.iload_n 3, 1) := dk_29 (dk_at dksX1_digest_1 9 rfl rfl)
theorem dX1_digest_34 : decode cX1_digest 34 = .ok (.bipush 6, 2) := dk_16 6 (dk_at dksX1_digest_1 10 rfl rfl)
theorem dX1_digest_36 : decode cX1_digest 36 = .ok (.aload_n 0, 1) := dk_42 (dk_at dksX1_digest_1 12 rfl rfl)
theorem dX1_digest_37 : decode cX1_digest 37 = .ok (.getfield 136, 3) := dk_180 0 136 (dk_at dksX1_digest_1 13 rfl rfl)
theorem dX1_digest_40 : decode cX1_digest 40 = .ok (.imul, 1) := dk_104 (dk_at dksX1_digest_1 16 rfl rfl)
theorem dX1_digest_41 : decode cX1_digest 41 = .ok (.if_icmp .ge 29, 3) := dk_162 0 29 (dk_at dksX1_digest_1 17 rfl rfl)
theorem dX1_digest_44 : decode cX1_digest 44 = .ok (.ldc2_w 296, 3) := dk_20 1 40 (dk_at dksX1_digest_1 20 rfl rfl)
theorem dX1_digest_47 : decode cX1_digest 47 = .ok (.lload_n 1, 1) := dk_31 (dk_at dksX1_digest_1 23 rfl rfl)
theorem dX1_digest_48 : decode cX1_digest 48 = .ok (.lmul, 1) := dk_105 (dk_at dksX1_digest_2 0 rfl rfl)
theorem dX1_digest_49 : decode cX1_digest 49 = .ok (.aload_n 0, 1) := dk_42 (dk_at dksX1_digest_2 1 rfl rfl)
theorem dX1_digest_50 : decode cX1_digest 50 = .ok (.iload_n 3, 1) := dk_29 (dk_at dksX1_digest_2 2 rfl rfl)
theorem dX1_digest_51 : decode cX1_digest 51 = .ok (.bipush 6, 2) := dk_16 6 (dk_at dksX1_digest_2 3 rfl rfl)
theorem dX1_digest_53 : decode cX1_digest 53 = .ok (.idiv, 1) := dk_108 (dk_at dksX1_digest_2 5 rfl rfl)
theorem dX1_digest_54 : decode cX1_digest 54 = .ok (.iload_n 3, 1) := dk_29 (dk_at dksX1_digest_2 6 rfl rfl)
theorem dX1_digest_55 : decode cX1_digest 55 = .ok (.bipush 6, 2) := dk_16 6 (dk_at dksX1_digest_2 7 rfl rfl)
theorem dX1_digest_57 : decode cX1_digest 57 = .ok (.irem, 1) := dk_112 (dk_at dksX1_digest_2 9 rfl rfl)
theorem dX1_digest_58 : decode cX1_digest 58 = .ok (.invokevirtual 165, 3) := dk_182 0 165 (dk_at dksX1_digest_2 10 rfl rfl)
theorem dX1_digest_61 : decode cX1_digest 61 = .ok (.i2l, 1) := dk_133 (dk_at dksX1_digest_2 13 rfl rfl)
theorem dX1_digest_62 : decode cX1_digest 62 = .ok (.ladd, 1) := dk_97 (dk_at dksX1_digest_2 14 rfl rfl)
theorem dX1_digest_63 : decode cX1_digest 63 = .ok (.lstore_n 1, 1) := dk_64 (dk_at dksX1_digest_2 15 rfl rfl)
theorem dX1_digest_64 : decode cX1_digest 64 = .ok (.iinc 3 1, 3) := dk_132 3 1 (dk_at dksX1_digest_2 16 rfl rfl)
theorem dX1_digest_67 : decode cX1_digest 67 = .ok (.goto (-34), 3) := dk_167 255 222 (dk_at dksX1_digest_2 19 rfl rfl)
theorem dX1_digest_70 : decode cX1_digest 70 = .ok (.iconst 1, 1) := dk_4 (dk_at dksX1_digest_2 22 rfl rfl)
theorem dX1_digest_71 : decode cX1_digest 71 = .ok (.istore_n 3, 1) := dk_62 (dk_at dksX1_digest_2 23 rfl rfl)
theorem dX1_digest_72 : decode cX1_digest 72 = .ok (.iload_n 3, 1) := dk_29 (dk_at dksX1_digest_3 0 rfl rfl)
theorem dX1_digest_73 : decode cX1_digest 73 = .ok (.iconst 4, 1) := dk_7 (dk_at dksX1_digest_3 1 rfl rfl)
theorem dX1_digest_74 : decode cX1_digest 74 = .ok (.if_icmp .ge 29, 3) := dk_162 0 29 (dk_at dksX1_digest_3 2 rfl rfl)
theorem dX1_digest_77 : decode cX1_digest 77 = .ok (.ldc2_w 296, 3) := dk_20 1 40 (dk_at dksX1_digest_3 5 rfl rfl)
theorem dX1_digest_80 : decode cX1_digest 80 = .ok (.lload_n 1, 1) := dk_31 (dk_at dksX1_digest_3 8 rfl rfl)
theorem dX1_digest_81 : decode cX1_digest 81 = .ok (.lmul, 1) := dk_105 (dk_at dksX1_digest_3 9 rfl rfl)
theorem dX1_digest_82 : decode cX1_digest 82 = .ok (.aload_n 0, 1) := dk_42 (dk_at dksX1_digest_3 10 rfl rfl)
theorem dX1_digest_83 : decode cX1_digest 83 = .ok (.getfield 7, 3) := dk_180 0 7 (dk_at dksX1_digest_3 11 rfl rfl)
theorem dX1_digest_86 : decode cX1_digest 86 = .ok (.sipush 821, 3) := dk_17 3 53 (dk_at dksX1_digest_3 14 rfl rfl)
theorem dX1_digest_89 : decode cX1_digest 89 = .ok (.iload_n 3, 1) := dk_29 (dk_at dksX1_digest_3 17 rfl rfl)
theorem dX1_digest_90 : decode cX1_digest 90 = .ok (.imul, 1) := dk_104 (dk_at dksX1_digest_3 18 rfl rfl)
theorem dX1_digest_91 : decode cX1_digest 91 = .ok (.iconst 0, 1) := dk_3 (dk_at dksX1_digest_3 19 rfl rfl)
theorem dX1_digest_92 : decode cX1_digest 92 = .ok (.iadd, 1) := dk_96 (dk_at dksX1_digest_3 20 rfl rfl)
theorem dX1_digest_93 : decode cX1_digest 93 = .ok (.iaload, 1) := dk_46 (dk_at dksX1_digest_3 21 rfl rfl)
theorem dX1_digest_94 : decode cX1_digest 94 = .ok (.i2l, 1) := dk_133 (dk_at dksX1_digest_3 22 rfl rfl)
theorem dX1_digest_95 : decode cX1_digest 95 = .ok (.ladd, 1) := dk_97 (dk_at dksX1_digest_3 23 rfl rfl)
theorem dX1_digest_96 : decode cX1_digest 96 = .ok (.lstore_n 1, 1) := dk_64 (dk_at dksX1_digest_4 0 rfl rfl)
theorem dX1_digest_97 : decode cX1_digest 97 = .ok (.iinc 3 1, 3) := dk_132 3 1 (dk_at dksX1_digest_4 1 rfl rfl)
theorem dX1_digest_100 : decode cX1_digest 100 = .ok (.goto (-28), 3) := dk_167 255 228 (dk_at dksX1_digest_4 4 rfl rfl)
theorem dX1_digest_103 : decode cX1_digest 103 = .ok (.iconst 0, 1) := dk_3 (dk_at dksX1_digest_4 7 rfl rfl)
theorem dX1_digest_104 : decode cX1_digest 104 = .ok (.istore_n 3, 1) := dk_62 (dk_at dksX1_digest_4 8 rfl rfl)
theorem dX1_digest_105 : decode cX1_digest 105 = .ok (.iload_n 3, 1) := dk_29 (dk_at dksX1_digest_4 9 rfl rfl)
theorem dX1_digest_106 : decode cX1_digest 106 = .ok (.bipush 6, 2) := dk_16 6 (dk_at dksX1_digest_4 10 rfl rfl)
theorem dX1_digest_108 : decode cX1_digest 108 = .ok (.if_icmp .ge 63, 3) := dk_162 0 63 (dk_at dksX1_digest_4 12 rfl rfl)
theorem dX1_digest_111 : decode cX1_digest 111 = .ok (.ldc2_w 296, 3) := dk_20 1 40 (dk_at dksX1_digest_4 15 rfl rfl)
theorem dX1_digest_114 : decode cX1_digest 114 = .ok (.lload_n 1, 1) := dk_31 (dk_at dksX1_digest_4 18 rfl rfl)
theorem dX1_digest_115 : decode cX1_digest 115 = .ok (.lmul, 1) := dk_105 (dk_at dksX1_digest_4 19 rfl rfl)
theorem dX1_digest_116 : decode cX1_digest 116 = .ok (.aload_n 0, 1) := dk_42 (dk_at dksX1_digest_4 20 rfl rfl)
theorem dX1_digest_117 : decode cX1_digest 117 = .ok (.getfield 16, 3) := dk_180 0 16 (dk_at dksX1_digest_4 21 rfl rfl)
theorem dX1_digest_120 : decode cX1_digest 120 = .ok (.iload_n 3, 1) := dk_29 (dk_at dksX1_digest_5 0 rfl rfl)
theorem dX1_digest_121 : decode cX1_digest 121 = .ok (.iaload, 1) := dk_46 (dk_at dksX1_digest_5 1 rfl rfl)
theorem dX1_digest_122 : decode cX1_digest 122 = .ok (.i2l, 1) := dk_133 (dk_at dksX1_digest_5 2 rfl rfl)
theorem dX1_digest_123 : decode cX1_digest 123 = .ok (.ladd, 1) := dk_97 (dk_at dksX1_digest_5 3 rfl rfl)
theorem dX1_digest_124 : decode cX1_digest 124 = .ok (.lstore_n 1, 1) := dk_64 (dk_at dksX1_digest_5 4 rfl rfl)
theorem dX1_digest_125 : decode cX1_digest 125 = .ok (.iconst 0, 1) := dk_3 (dk_at dksX1_digest_5 5 rfl rfl)
theorem dX1_digest_126 : decode cX1_digest 126 = .ok (.istore 4, 2) := dk_54 4 (dk_at dksX1_digest_5 6 rfl rfl)
theorem dX1_digest_128 : decode cX1_digest 128 = .ok (.iload 4, 2) := dk_21 4 (dk_at dksX1_digest_5 8 rfl rfl)
theorem dX1_digest_130 : decode cX1_digest 130 = .ok (.aload_n 0, 1) := dk_42 (dk_at dksX1_digest_5 10 rfl rfl)
theorem dX1_digest_131 : decode cX1_digest 131 = .ok (.getfield 16, 3) := dk_180 0 16 (dk_at dksX1_digest_5 11 rfl rfl)
theorem dX1_digest_134 : decode cX1_digest 134 = .ok (.iload_n 3, 1) := dk_29 (dk_at dksX1_digest_5 14 rfl rfl)
theorem dX1_digest_135 : decode cX1_digest 135 = .ok (.iaload, 1) := dk_46 (dk_at dksX1_digest_5 15 rfl rfl)
theorem dX1_digest_136 : decode cX1_digest 136 = .ok (.if_icmp .ge 29, 3) := dk_162 0 29 (dk_at dksX1_digest_5 16 rfl rfl)
theorem dX1_digest_139 : decode cX1_digest 139 = .ok (.ldc2_w 296, 3) := dk_20 1 40 (dk_at dksX1_digest_5 19 rfl rfl)
theorem dX1_digest_142 : decode cX1_digest 142 = .ok (.lload_n 1, 1) := dk_31 (dk_at dksX1_digest_5 22 rfl rfl)
theorem dX1_digest_143 : decode cX1_digest 143 = .ok (.lmul, 1) := dk_105 (dk_at dksX1_digest_5 23 rfl rfl)
theorem dX1_digest_144 : decode cX1_digest 144 = .ok (.aload_n 0, 1) := dk_42 (dk_at dksX1_digest_6 0 rfl rfl)
theorem dX1_digest_145 : decode cX1_digest 145 = .ok (.getfield 19, 3) := dk_180 0 19 (dk_at dksX1_digest_6 1 rfl rfl)
theorem dX1_digest_148 : decode cX1_digest 148 = .ok (.bipush 40, 2) := dk_16 40 (dk_at dksX1_digest_6 4 rfl rfl)
theorem dX1_digest_150 : decode cX1_digest 150 = .ok (.iload_n 3, 1) := dk_29 (dk_at dksX1_digest_6 6 rfl rfl)
theorem dX1_digest_151 : decode cX1_digest 151 = .ok (.imul, 1) := dk_104 (dk_at dksX1_digest_6 7 rfl rfl)
theorem dX1_digest_152 : decode cX1_digest 152 = .ok (.iload 4, 2) := dk_21 4 (dk_at dksX1_digest_6 8 rfl rfl)
theorem dX1_digest_154 : decode cX1_digest 154 = .ok (.iadd, 1) := dk_96 (dk_at dksX1_digest_6 10 rfl rfl)
theorem dX1_digest_155 : decode cX1_digest 155 = .ok (.iaload, 1) := dk_46 (dk_at dksX1_digest_6 11 rfl rfl)
theorem dX1_digest_156 : decode cX1_digest 156 = .ok (.i2l, 1) := dk_133 (dk_at dksX1_digest_6 12 rfl rfl)
theorem dX1_digest_157 : decode cX1_digest 157 = .ok (.ladd, 1) := dk_97 (dk_at dksX1_digest_6 13 rfl rfl)
theorem dX1_digest_158 : decode cX1_digest 158 = .ok (.lstore_n 1, 1) := dk_64 (dk_at dksX1_digest_6 14 rfl rfl)
theorem dX1_digest_159 : decode cX1_digest 159 = .ok (.iinc 4 1, 3) := dk_132 4 1 (dk_at dksX1_digest_6 15 rfl rfl)
theorem dX1_digest_162 : decode cX1_digest 162 = .ok (.goto (-34), 3) := dk_167 255 222 (dk_at dksX1_digest_6 18 rfl rfl)
theorem dX1_digest_165 : decode cX1_digest 165 = .ok (.iinc 3 1, 3) := dk_132 3 1 (dk_at dksX1_digest_6 21 rfl rfl)
theorem dX1_digest_168 : decode cX1_digest 168 = .ok (.goto (-63), 3) := dk_167 255 193 (dk_at dksX1_digest_7 0 rfl rfl)
theorem dX1_digest_171 : decode cX1_digest 171 = .ok (.iconst 0, 1) := dk_3 (dk_at dksX1_digest_7 3 rfl rfl)
theorem dX1_digest_172 : decode cX1_digest 172 = .ok (.istore_n 3, 1) := dk_62 (dk_at dksX1_digest_7 4 rfl rfl)
theorem dX1_digest_173 : decode cX1_digest 173 = .ok (.iload_n 3, 1) := dk_29 (dk_at dksX1_digest_7 5 rfl rfl)
theorem dX1_digest_174 : decode cX1_digest 174 = .ok (.iconst 4, 1) := dk_7 (dk_at dksX1_digest_7 6 rfl rfl)
theorem dX1_digest_175 : decode cX1_digest 175 = .ok (.if_icmp .ge 63, 3) := dk_162 0 63 (dk_at dksX1_digest_7 7 rfl rfl)
theorem dX1_digest_178 : decode cX1_digest 178 = .ok (.ldc2_w 296, 3) := dk_20 1 40 (dk_at dksX1_digest_7 10 rfl rfl)
theorem dX1_digest_181 : decode cX1_digest 181 = .ok (.lload_n 1, 1) := dk_31 (dk_at dksX1_digest_7 13 rfl rfl)
theorem dX1_digest_182 : decode cX1_digest 182 = .ok (.lmul, 1) := dk_105 (dk_at dksX1_digest_7 14 rfl rfl)
theorem dX1_digest_183 : decode cX1_digest 183 = .ok (.aload_n 0, 1) := dk_42 (dk_at dksX1_digest_7 15 rfl rfl)
theorem dX1_digest_184 : decode cX1_digest 184 = .ok (.getfield 22, 3) := dk_180 0 22 (dk_at dksX1_digest_7 16 rfl rfl)
theorem dX1_digest_187 : decode cX1_digest 187 = .ok (.iload_n 3, 1) := dk_29 (dk_at dksX1_digest_7 19 rfl rfl)
theorem dX1_digest_188 : decode cX1_digest 188 = .ok (.iaload, 1) := dk_46 (dk_at dksX1_digest_7 20 rfl rfl)
theorem dX1_digest_189 : decode cX1_digest 189 = .ok (.i2l, 1) := dk_133 (dk_at dksX1_digest_7 21 rfl rfl)
theorem dX1_digest_190 : decode cX1_digest 190 = .ok (.ladd, 1) := dk_97 (dk_at dksX1_digest_7 22 rfl rfl)
theorem dX1_digest_191 : decode cX1_digest 191 = .ok (.lstore_n 1, 1) := dk_64 (dk_at dksX1_digest_7 23 rfl rfl)
theorem dX1_digest_192 : decode cX1_digest 192 = .ok (.iconst 0, 1) := dk_3 (dk_at dksX1_digest_8 0 rfl rfl)
theorem dX1_digest_193 : decode cX1_digest 193 = .ok (.istore 4, 2) := dk_54 4 (dk_at dksX1_digest_8 1 rfl rfl)
theorem dX1_digest_195 : decode cX1_digest 195 = .ok (.iload 4, 2) := dk_21 4 (dk_at dksX1_digest_8 3 rfl rfl)
theorem dX1_digest_197 : decode cX1_digest 197 = .ok (.aload_n 0, 1) := dk_42 (dk_at dksX1_digest_8 5 rfl rfl)
theorem dX1_digest_198 : decode cX1_digest 198 = .ok (.getfield 22, 3) := dk_180 0 22 (dk_at dksX1_digest_8 6 rfl rfl)
theorem dX1_digest_201 : decode cX1_digest 201 = .ok (.iload_n 3, 1) := dk_29 (dk_at dksX1_digest_8 9 rfl rfl)
theorem dX1_digest_202 : decode cX1_digest 202 = .ok (.iaload, 1) := dk_46 (dk_at dksX1_digest_8 10 rfl rfl)
theorem dX1_digest_203 : decode cX1_digest 203 = .ok (.if_icmp .ge 29, 3) := dk_162 0 29 (dk_at dksX1_digest_8 11 rfl rfl)
theorem dX1_digest_206 : decode cX1_digest 206 = .ok (.ldc2_w 296, 3) := dk_20 1 40 (dk_at dksX1_digest_8 14 rfl rfl)
theorem dX1_digest_209 : decode cX1_digest 209 = .ok (.lload_n 1, 1) := dk_31 (dk_at dksX1_digest_8 17 rfl rfl)
theorem dX1_digest_210 : decode cX1_digest 210 = .ok (.lmul, 1) := dk_105 (dk_at dksX1_digest_8 18 rfl rfl)
theorem dX1_digest_211 : decode cX1_digest 211 = .ok (.aload_n 0, 1) := dk_42 (dk_at dksX1_digest_8 19 rfl rfl)
theorem dX1_digest_212 : decode cX1_digest 212 = .ok (.getfield 25, 3) := dk_180 0 25 (dk_at dksX1_digest_8 20 rfl rfl)
theorem dX1_digest_215 : decode cX1_digest 215 = .ok (.bipush 60, 2) := dk_16 60 (dk_at dksX1_digest_9 0 rfl rfl)
theorem dX1_digest_217 : decode cX1_digest 217 = .ok (.iload_n 3, 1) := dk_29 (dk_at dksX1_digest_9 2 rfl rfl)
theorem dX1_digest_218 : decode cX1_digest 218 = .ok (.imul, 1) := dk_104 (dk_at dksX1_digest_9 3 rfl rfl)
theorem dX1_digest_219 : decode cX1_digest 219 = .ok (.iload 4, 2) := dk_21 4 (dk_at dksX1_digest_9 4 rfl rfl)
theorem dX1_digest_221 : decode cX1_digest 221 = .ok (.iadd, 1) := dk_96 (dk_at dksX1_digest_9 6 rfl rfl)
theorem dX1_digest_222 : decode cX1_digest 222 = .ok (.iaload, 1) := dk_46 (dk_at dksX1_digest_9 7 rfl rfl)
theorem dX1_digest_223 : decode cX1_digest 223 = .ok (.i2l, 1) := dk_133 (dk_at dksX1_digest_9 8 rfl rfl)
theorem dX1_digest_224 : decode cX1_digest 224 = .ok (.ladd, 1) := dk_97 (dk_at dksX1_digest_9 9 rfl rfl)
theorem dX1_digest_225 : decode cX1_digest 225 = .ok (.lstore_n 1, 1) := dk_64 (dk_at dksX1_digest_9 10 rfl rfl)
theorem dX1_digest_226 : decode cX1_digest 226 = .ok (.iinc 4 1, 3) := dk_132 4 1 (dk_at dksX1_digest_9 11 rfl rfl)
theorem dX1_digest_229 : decode cX1_digest 229 = .ok (.goto (-34), 3) := dk_167 255 222 (dk_at dksX1_digest_9 14 rfl rfl)
theorem dX1_digest_232 : decode cX1_digest 232 = .ok (.iinc 3 1, 3) := dk_132 3 1 (dk_at dksX1_digest_9 17 rfl rfl)
theorem dX1_digest_235 : decode cX1_digest 235 = .ok (.goto (-62), 3) := dk_167 255 194 (dk_at dksX1_digest_9 20 rfl rfl)
theorem dX1_digest_238 : decode cX1_digest 238 = .ok (.lload_n 1, 1) := dk_31 (dk_at dksX1_digest_9 23 rfl rfl)
theorem dX1_digest_239 : decode cX1_digest 239 = .ok (.lreturn, 1) := dk_173 (dk_at dksX1_digest_10 0 rfl rfl)
theorem q88 : (Jvm.Cond.initialized "DareFordModel") ∈ lw_all := lw_g (lw_at lw_m1 2 rfl) rfl
theorem q944 : (Jvm.Cond.instantiable "DareFordModel" (23 : Nat)) ∈ lw_all := lw_g (lw_at lw_m4 138 rfl) rfl
theorem q946 : (Jvm.Cond.instanceMethod ({ cls := "DareFordModel", name := "<init>", desc := "()V" } : Jvm.MethodName)) ∈ lw_all := lw_g (lw_at lw_m4 140 rfl) rfl
theorem q947 : (Jvm.Cond.code ({ cls := "DareFordModel", name := "<init>", desc := "()V" } : Jvm.MethodName) prog_10_method_1_code (2 : Nat) (Option.none : Option Jvm.ClassFile.FieldType)) ∈ lw_all := lw_g (lw_at lw_m4 141 rfl) rfl
theorem q948 : (Jvm.Cond.methodLink "DareFordModel" (1 : Nat) ({ cls := "java/lang/Object", name := "<init>", desc := "()V" } : Jvm.MethodName)) ∈ lw_all := lw_g (lw_at lw_m4 142 rfl) rfl
theorem q949 : (Jvm.Cond.fieldLink "DareFordModel" (7 : Nat) "DareFordModel" "row" "[I") ∈ lw_all := lw_g (lw_at lw_m4 143 rfl) rfl
theorem q950 : (Jvm.Cond.fieldLink "DareFordModel" (136 : Nat) "DareFordModel" "people" "I") ∈ lw_all := lw_g (lw_at lw_m4 144 rfl) rfl
theorem q951 : (Jvm.Cond.fieldLink "DareFordModel" (13 : Nat) "DareFordModel" "kinds" "[I") ∈ lw_all := lw_g (lw_at lw_m4 145 rfl) rfl
theorem q952 : (Jvm.Cond.fieldLink "DareFordModel" (16 : Nat) "DareFordModel" "sizes" "[I") ∈ lw_all := lw_g (lw_at lw_m4 146 rfl) rfl
theorem q953 : (Jvm.Cond.fieldLink "DareFordModel" (19 : Nat) "DareFordModel" "items" "[I") ∈ lw_all := lw_g (lw_at lw_m4 147 rfl) rfl
theorem q954 : (Jvm.Cond.fieldLink "DareFordModel" (22 : Nat) "DareFordModel" "lengths" "[I") ∈ lw_all := lw_g (lw_at lw_m4 148 rfl) rfl
theorem q955 : (Jvm.Cond.fieldLink "DareFordModel" (25 : Nat) "DareFordModel" "bytes" "[I") ∈ lw_all := lw_g (lw_at lw_m4 149 rfl) rfl
theorem q956 : (Jvm.Cond.fieldLink "DareFordModel" (54 : Nat) "DareFordModel" "asked" "I") ∈ lw_all := lw_g (lw_at lw_m4 150 rfl) rfl
theorem q957 : (Jvm.Cond.fieldLink "DareFordModel" (239 : Nat) "DareFordModel" "upper" "J") ∈ lw_all := lw_g (lw_at lw_m4 151 rfl) rfl
theorem q958 : (Jvm.Cond.fieldLink "DareFordModel" (28 : Nat) "DareFordModel" "lower" "J") ∈ lw_all := lw_g (lw_at lw_m4 152 rfl) rfl
theorem q959 : (Jvm.Cond.fieldLink "DareFordModel" (50 : Nat) "DareFordModel" "finding" "I") ∈ lw_all := lw_g (lw_at lw_m4 153 rfl) rfl
theorem q960 : (Jvm.Cond.fieldLink "DareFordModel" (32 : Nat) "DareFordModel" "findings" "[I") ∈ lw_all := lw_g (lw_at lw_m4 154 rfl) rfl
theorem q961 : (Jvm.Cond.fieldLink "DareFordModel" (91 : Nat) "DareFordModel" "from" "I") ∈ lw_all := lw_g (lw_at lw_m4 155 rfl) rfl
theorem q962 : (Jvm.Cond.fieldLink "DareFordModel" (94 : Nat) "DareFordModel" "place" "I") ∈ lw_all := lw_g (lw_at lw_m4 156 rfl) rfl
theorem q963 : (Jvm.Cond.fieldLink "DareFordModel" (97 : Nat) "DareFordModel" "end" "I") ∈ lw_all := lw_g (lw_at lw_m4 157 rfl) rfl
theorem q964 : (Jvm.Cond.fieldLink "DareFordModel" (114 : Nat) "DareFordModel" "readFord" "I") ∈ lw_all := lw_g (lw_at lw_m4 158 rfl) rfl
theorem q965 : (Jvm.Cond.fieldLink "DareFordModel" (35 : Nat) "DareFordModel" "readPeople" "[I") ∈ lw_all := lw_g (lw_at lw_m4 159 rfl) rfl
theorem q966 : (Jvm.Cond.fieldLink "DareFordModel" (117 : Nat) "DareFordModel" "readMany" "I") ∈ lw_all := lw_g (lw_at lw_m4 160 rfl) rfl
theorem q967 : (Jvm.Cond.fieldLink "DareFordModel" (38 : Nat) "DareFordModel" "by" "[I") ∈ lw_all := lw_g (lw_at lw_m4 161 rfl) rfl
theorem q968 : (Jvm.Cond.fieldLink "DareFordModel" (41 : Nat) "DareFordModel" "bestBy" "[I") ∈ lw_all := lw_g (lw_at lw_m4 162 rfl) rfl
theorem q969 : (Jvm.Cond.fieldLink "DareFordModel" (44 : Nat) "DareFordModel" "parts" "[I") ∈ lw_all := lw_g (lw_at lw_m4 163 rfl) rfl
theorem q970 : (Jvm.Cond.fieldLink "DareFordModel" (47 : Nat) "DareFordModel" "atLast" "[I") ∈ lw_all := lw_g (lw_at lw_m4 164 rfl) rfl
theorem q971 : (Jvm.Cond.fieldLink "DareFordModel" (258 : Nat) "DareFordModel" "allChances" "J") ∈ lw_all := lw_g (lw_at lw_m4 165 rfl) rfl
theorem q972 : (Jvm.Cond.laysFinal "DareFordModel" "DareFordModel" "row" "[I") ∈ lw_all := lw_g (lw_at lw_m4 166 rfl) rfl
theorem q973 : (Jvm.Cond.soleField "DareFordModel" "row") ∈ lw_all := lw_g (lw_at lw_m4 167 rfl) rfl
theorem q974 : (Jvm.Cond.lays "DareFordModel" "DareFordModel" "people" "I") ∈ lw_all := lw_g (lw_at lw_m4 168 rfl) rfl
theorem q975 : (Jvm.Cond.soleField "DareFordModel" "people") ∈ lw_all := lw_g (lw_at lw_m4 169 rfl) rfl
theorem q976 : (Jvm.Cond.laysFinal "DareFordModel" "DareFordModel" "kinds" "[I") ∈ lw_all := lw_g (lw_at lw_m4 170 rfl) rfl
theorem q977 : (Jvm.Cond.soleField "DareFordModel" "kinds") ∈ lw_all := lw_g (lw_at lw_m4 171 rfl) rfl
theorem q978 : (Jvm.Cond.laysFinal "DareFordModel" "DareFordModel" "sizes" "[I") ∈ lw_all := lw_g (lw_at lw_m4 172 rfl) rfl
theorem q979 : (Jvm.Cond.soleField "DareFordModel" "sizes") ∈ lw_all := lw_g (lw_at lw_m4 173 rfl) rfl
theorem q980 : (Jvm.Cond.laysFinal "DareFordModel" "DareFordModel" "items" "[I") ∈ lw_all := lw_g (lw_at lw_m4 174 rfl) rfl
theorem q981 : (Jvm.Cond.soleField "DareFordModel" "items") ∈ lw_all := lw_g (lw_at lw_m4 175 rfl) rfl
theorem q982 : (Jvm.Cond.laysFinal "DareFordModel" "DareFordModel" "lengths" "[I") ∈ lw_all := lw_g (lw_at lw_m4 176 rfl) rfl
theorem q983 : (Jvm.Cond.soleField "DareFordModel" "lengths") ∈ lw_all := lw_g (lw_at lw_m4 177 rfl) rfl
theorem q984 : (Jvm.Cond.laysFinal "DareFordModel" "DareFordModel" "bytes" "[I") ∈ lw_all := lw_g (lw_at lw_m4 178 rfl) rfl
theorem q985 : (Jvm.Cond.soleField "DareFordModel" "bytes") ∈ lw_all := lw_g (lw_at lw_m4 179 rfl) rfl
theorem q986 : (Jvm.Cond.lays "DareFordModel" "DareFordModel" "asked" "I") ∈ lw_all := lw_g (lw_at lw_m4 180 rfl) rfl
theorem q987 : (Jvm.Cond.soleField "DareFordModel" "asked") ∈ lw_all := lw_g (lw_at lw_m4 181 rfl) rfl
theorem q988 : (Jvm.Cond.lays "DareFordModel" "DareFordModel" "upper" "J") ∈ lw_all := lw_g (lw_at lw_m4 182 rfl) rfl
theorem q989 : (Jvm.Cond.soleField "DareFordModel" "upper") ∈ lw_all := lw_g (lw_at lw_m4 183 rfl) rfl
theorem q990 : (Jvm.Cond.lays "DareFordModel" "DareFordModel" "lower" "J") ∈ lw_all := lw_g (lw_at lw_m4 184 rfl) rfl
theorem q991 : (Jvm.Cond.soleField "DareFordModel" "lower") ∈ lw_all := lw_g (lw_at lw_m4 185 rfl) rfl
theorem q992 : (Jvm.Cond.lays "DareFordModel" "DareFordModel" "finding" "I") ∈ lw_all := lw_g (lw_at lw_m4 186 rfl) rfl
theorem q993 : (Jvm.Cond.soleField "DareFordModel" "finding") ∈ lw_all := lw_g (lw_at lw_m4 187 rfl) rfl
theorem q994 : (Jvm.Cond.laysFinal "DareFordModel" "DareFordModel" "findings" "[I") ∈ lw_all := lw_g (lw_at lw_m4 188 rfl) rfl
theorem q995 : (Jvm.Cond.soleField "DareFordModel" "findings") ∈ lw_all := lw_g (lw_at lw_m4 189 rfl) rfl
theorem q996 : (Jvm.Cond.lays "DareFordModel" "DareFordModel" "from" "I") ∈ lw_all := lw_g (lw_at lw_m4 190 rfl) rfl
theorem q997 : (Jvm.Cond.soleField "DareFordModel" "from") ∈ lw_all := lw_g (lw_at lw_m4 191 rfl) rfl
theorem q998 : (Jvm.Cond.lays "DareFordModel" "DareFordModel" "place" "I") ∈ lw_all := lw_g (lw_at lw_m4 192 rfl) rfl
theorem q999 : (Jvm.Cond.soleField "DareFordModel" "place") ∈ lw_all := lw_g (lw_at lw_m4 193 rfl) rfl
theorem q1000 : (Jvm.Cond.lays "DareFordModel" "DareFordModel" "end" "I") ∈ lw_all := lw_g (lw_at lw_m4 194 rfl) rfl
theorem q1001 : (Jvm.Cond.soleField "DareFordModel" "end") ∈ lw_all := lw_g (lw_at lw_m4 195 rfl) rfl
theorem q1002 : (Jvm.Cond.lays "DareFordModel" "DareFordModel" "readFord" "I") ∈ lw_all := lw_g (lw_at lw_m4 196 rfl) rfl
theorem q1003 : (Jvm.Cond.soleField "DareFordModel" "readFord") ∈ lw_all := lw_g (lw_at lw_m4 197 rfl) rfl
theorem q1004 : (Jvm.Cond.laysFinal "DareFordModel" "DareFordModel" "readPeople" "[I") ∈ lw_all := lw_g (lw_at lw_m4 198 rfl) rfl
theorem q1005 : (Jvm.Cond.soleField "DareFordModel" "readPeople") ∈ lw_all := lw_g (lw_at lw_m4 199 rfl) rfl
theorem q1006 : (Jvm.Cond.lays "DareFordModel" "DareFordModel" "readMany" "I") ∈ lw_all := lw_g (lw_at lw_m4 200 rfl) rfl
theorem q1007 : (Jvm.Cond.soleField "DareFordModel" "readMany") ∈ lw_all := lw_g (lw_at lw_m4 201 rfl) rfl
theorem q1008 : (Jvm.Cond.laysFinal "DareFordModel" "DareFordModel" "by" "[I") ∈ lw_all := lw_g (lw_at lw_m4 202 rfl) rfl
theorem q1009 : (Jvm.Cond.soleField "DareFordModel" "by") ∈ lw_all := lw_g (lw_at lw_m4 203 rfl) rfl
theorem q1010 : (Jvm.Cond.laysFinal "DareFordModel" "DareFordModel" "bestBy" "[I") ∈ lw_all := lw_g (lw_at lw_m4 204 rfl) rfl
theorem q1011 : (Jvm.Cond.soleField "DareFordModel" "bestBy") ∈ lw_all := lw_g (lw_at lw_m4 205 rfl) rfl
theorem q1012 : (Jvm.Cond.laysFinal "DareFordModel" "DareFordModel" "parts" "[I") ∈ lw_all := lw_g (lw_at lw_m4 206 rfl) rfl
theorem q1013 : (Jvm.Cond.soleField "DareFordModel" "parts") ∈ lw_all := lw_g (lw_at lw_m4 207 rfl) rfl
theorem q1014 : (Jvm.Cond.laysFinal "DareFordModel" "DareFordModel" "atLast" "[I") ∈ lw_all := lw_g (lw_at lw_m4 208 rfl) rfl
theorem q1015 : (Jvm.Cond.soleField "DareFordModel" "atLast") ∈ lw_all := lw_g (lw_at lw_m4 209 rfl) rfl
theorem q1016 : (Jvm.Cond.lays "DareFordModel" "DareFordModel" "allChances" "J") ∈ lw_all := lw_g (lw_at lw_m4 210 rfl) rfl
theorem q1017 : (Jvm.Cond.soleField "DareFordModel" "allChances") ∈ lw_all := lw_g (lw_at lw_m4 211 rfl) rfl
theorem q1018 : (Jvm.Cond.superclass "DareFordModel" "java/lang/Object") ∈ lw_all := lw_g (lw_at lw_m4 212 rfl) rfl
theorem q1020 : (Jvm.Cond.instanceMethod ({ cls := "DareFordModel", name := "row", desc := "(II)I" } : Jvm.MethodName)) ∈ lw_all := lw_g (lw_at lw_m4 214 rfl) rfl
theorem q1021 : (Jvm.Cond.selects "DareFordModel" ({ cls := "DareFordModel", name := "row", desc := "(II)I" } : Jvm.MethodName) ({ cls := "DareFordModel", name := "row", desc := "(II)I" } : Jvm.MethodName)) ∈ lw_all := lw_g (lw_at lw_m4 215 rfl) rfl
theorem q1022 : (Jvm.Cond.code ({ cls := "DareFordModel", name := "row", desc := "(II)I" } : Jvm.MethodName) prog_10_method_8_code (3 : Nat) (Option.some Jvm.ClassFile.FieldType.int)) ∈ lw_all := lw_g (lw_at lw_m4 216 rfl) rfl
theorem q1023 : (Jvm.Cond.methodLink "DareFordModel" (65 : Nat) ({ cls := "DareFordModel", name := "isRow", desc := "(I)Z" } : Jvm.MethodName)) ∈ lw_all := lw_g (lw_at lw_m4 217 rfl) rfl
theorem q1024 : (Jvm.Cond.static ({ cls := "DareFordModel", name := "isRow", desc := "(I)Z" } : Jvm.MethodName)) ∈ lw_all := lw_g (lw_at lw_m4 218 rfl) rfl
theorem q1025 : (Jvm.Cond.code ({ cls := "DareFordModel", name := "isRow", desc := "(I)Z" } : Jvm.MethodName) prog_10_method_6_code (1 : Nat) (Option.some Jvm.ClassFile.FieldType.boolean)) ∈ lw_all := lw_g (lw_at lw_m4 219 rfl) rfl
theorem q1026 : (Jvm.Cond.constantLong "DareFordModel" (57 : Nat) (5 : Int64)) ∈ lw_all := lw_g (lw_at lw_m4 220 rfl) rfl
theorem q1027 : (Jvm.Cond.methodLink "DareFordModel" (59 : Nat) ({ cls := "DareFordModel", name := "in", desc := "(JJJ)Z" } : Jvm.MethodName)) ∈ lw_all := lw_g (lw_at lw_m4 221 rfl) rfl
theorem q1028 : (Jvm.Cond.static ({ cls := "DareFordModel", name := "in", desc := "(JJJ)Z" } : Jvm.MethodName)) ∈ lw_all := lw_g (lw_at lw_m4 222 rfl) rfl
theorem q1029 : (Jvm.Cond.code ({ cls := "DareFordModel", name := "in", desc := "(JJJ)Z" } : Jvm.MethodName) prog_10_method_2_code (6 : Nat) (Option.some Jvm.ClassFile.FieldType.boolean)) ∈ lw_all := lw_g (lw_at lw_m4 223 rfl) rfl
theorem q1030 : (Jvm.Cond.methodLink "DareFordModel" (69 : Nat) ({ cls := "DareFordModel", name := "find", desc := "(I)I" } : Jvm.MethodName)) ∈ lw_all := lw_g (lw_at lw_m4 224 rfl) rfl
theorem q1031 : (Jvm.Cond.privateMethod ({ cls := "DareFordModel", name := "find", desc := "(I)I" } : Jvm.MethodName)) ∈ lw_tbl := lw_at lw_m4 225 rfl
theorem q1032 : (Jvm.Cond.instanceMethod ({ cls := "DareFordModel", name := "find", desc := "(I)I" } : Jvm.MethodName)) ∈ lw_all := lw_g (lw_at lw_m4 226 rfl) rfl
theorem q1033 : (Jvm.Cond.code ({ cls := "DareFordModel", name := "find", desc := "(I)I" } : Jvm.MethodName) prog_10_method_4_code (2 : Nat) (Option.some Jvm.ClassFile.FieldType.int)) ∈ lw_all := lw_g (lw_at lw_m4 227 rfl) rfl
theorem q1034 : (Jvm.Cond.methodLink "DareFordModel" (73 : Nat) ({ cls := "DareFordModel", name := "makeRow", desc := "(II)V" } : Jvm.MethodName)) ∈ lw_all := lw_g (lw_at lw_m4 228 rfl) rfl
theorem q1035 : (Jvm.Cond.privateMethod ({ cls := "DareFordModel", name := "makeRow", desc := "(II)V" } : Jvm.MethodName)) ∈ lw_tbl := lw_at lw_m4 229 rfl
theorem q1036 : (Jvm.Cond.instanceMethod ({ cls := "DareFordModel", name := "makeRow", desc := "(II)V" } : Jvm.MethodName)) ∈ lw_all := lw_g (lw_at lw_m4 230 rfl) rfl
theorem q1037 : (Jvm.Cond.code ({ cls := "DareFordModel", name := "makeRow", desc := "(II)V" } : Jvm.MethodName) prog_10_method_9_code (4 : Nat) (Option.none : Option Jvm.ClassFile.FieldType)) ∈ lw_all := lw_g (lw_at lw_m4 231 rfl) rfl
theorem q1039 : (Jvm.Cond.instanceMethod ({ cls := "DareFordModel", name := "lay", desc := "(III)I" } : Jvm.MethodName)) ∈ lw_all := lw_g (lw_at lw_m4 233 rfl) rfl
theorem q1040 : (Jvm.Cond.selects "DareFordModel" ({ cls := "DareFordModel", name := "lay", desc := "(III)I" } : Jvm.MethodName) ({ cls := "DareFordModel", name := "lay", desc := "(III)I" } : Jvm.MethodName)) ∈ lw_all := lw_g (lw_at lw_m4 234 rfl) rfl
theorem q1041 : (Jvm.Cond.code ({ cls := "DareFordModel", name := "lay", desc := "(III)I" } : Jvm.MethodName) prog_10_method_11_code (6 : Nat) (Option.some Jvm.ClassFile.FieldType.int)) ∈ lw_all := lw_g (lw_at lw_m4 235 rfl) rfl
theorem q1042 : (Jvm.Cond.methodLink "DareFordModel" (77 : Nat) ({ cls := "DareFordModel", name := "refused", desc := "(II)I" } : Jvm.MethodName)) ∈ lw_all := lw_g (lw_at lw_m4 236 rfl) rfl
theorem q1043 : (Jvm.Cond.privateMethod ({ cls := "DareFordModel", name := "refused", desc := "(II)I" } : Jvm.MethodName)) ∈ lw_tbl := lw_at lw_m4 237 rfl
theorem q1044 : (Jvm.Cond.instanceMethod ({ cls := "DareFordModel", name := "refused", desc := "(II)I" } : Jvm.MethodName)) ∈ lw_all := lw_g (lw_at lw_m4 238 rfl) rfl
theorem q1045 : (Jvm.Cond.code ({ cls := "DareFordModel", name := "refused", desc := "(II)I" } : Jvm.MethodName) prog_10_method_10_code (3 : Nat) (Option.some Jvm.ClassFile.FieldType.int)) ∈ lw_all := lw_g (lw_at lw_m4 239 rfl) rfl
theorem q1046 : (Jvm.Cond.methodLink "DareFordModel" (81 : Nat) ({ cls := "DareFordModel", name := "tell", desc := "(I)I" } : Jvm.MethodName)) ∈ lw_all := lw_g (lw_at lw_m5 0 rfl) rfl
theorem q1047 : (Jvm.Cond.privateMethod ({ cls := "DareFordModel", name := "tell", desc := "(I)I" } : Jvm.MethodName)) ∈ lw_tbl := lw_at lw_m5 1 rfl
theorem q1048 : (Jvm.Cond.instanceMethod ({ cls := "DareFordModel", name := "tell", desc := "(I)I" } : Jvm.MethodName)) ∈ lw_all := lw_g (lw_at lw_m5 2 rfl) rfl
theorem q1049 : (Jvm.Cond.code ({ cls := "DareFordModel", name := "tell", desc := "(I)I" } : Jvm.MethodName) prog_10_method_5_code (2 : Nat) (Option.some Jvm.ClassFile.FieldType.int)) ∈ lw_all := lw_g (lw_at lw_m5 3 rfl) rfl
theorem q1051 : (Jvm.Cond.instanceMethod ({ cls := "DareFordModel", name := "at", desc := "(II)I" } : Jvm.MethodName)) ∈ lw_all := lw_g (lw_at lw_m5 5 rfl) rfl
theorem q1052 : (Jvm.Cond.selects "DareFordModel" ({ cls := "DareFordModel", name := "at", desc := "(II)I" } : Jvm.MethodName) ({ cls := "DareFordModel", name := "at", desc := "(II)I" } : Jvm.MethodName)) ∈ lw_all := lw_g (lw_at lw_m5 6 rfl) rfl
theorem q1053 : (Jvm.Cond.code ({ cls := "DareFordModel", name := "at", desc := "(II)I" } : Jvm.MethodName) prog_10_method_12_code (4 : Nat) (Option.some Jvm.ClassFile.FieldType.int)) ∈ lw_all := lw_g (lw_at lw_m5 7 rfl) rfl
theorem q1055 : (Jvm.Cond.instanceMethod ({ cls := "DareFordModel", name := "tear", desc := "(I)I" } : Jvm.MethodName)) ∈ lw_all := lw_g (lw_at lw_m5 9 rfl) rfl
theorem q1056 : (Jvm.Cond.selects "DareFordModel" ({ cls := "DareFordModel", name := "tear", desc := "(I)I" } : Jvm.MethodName) ({ cls := "DareFordModel", name := "tear", desc := "(I)I" } : Jvm.MethodName)) ∈ lw_all := lw_g (lw_at lw_m5 10 rfl) rfl
theorem q1057 : (Jvm.Cond.code ({ cls := "DareFordModel", name := "tear", desc := "(I)I" } : Jvm.MethodName) prog_10_method_13_code (2 : Nat) (Option.some Jvm.ClassFile.FieldType.int)) ∈ lw_all := lw_g (lw_at lw_m5 11 rfl) rfl
theorem q1059 : (Jvm.Cond.instanceMethod ({ cls := "DareFordModel", name := "copy", desc := "(IIIII)I" } : Jvm.MethodName)) ∈ lw_all := lw_g (lw_at lw_m5 13 rfl) rfl
theorem q1060 : (Jvm.Cond.selects "DareFordModel" ({ cls := "DareFordModel", name := "copy", desc := "(IIIII)I" } : Jvm.MethodName) ({ cls := "DareFordModel", name := "copy", desc := "(IIIII)I" } : Jvm.MethodName)) ∈ lw_all := lw_g (lw_at lw_m5 14 rfl) rfl
theorem q1061 : (Jvm.Cond.code ({ cls := "DareFordModel", name := "copy", desc := "(IIIII)I" } : Jvm.MethodName) prog_10_method_15_code (9 : Nat) (Option.some Jvm.ClassFile.FieldType.int)) ∈ lw_all := lw_g (lw_at lw_m5 15 rfl) rfl
theorem q1062 : (Jvm.Cond.methodLink "DareFordModel" (84 : Nat) ({ cls := "DareFordModel", name := "isSpan", desc := "(III)Z" } : Jvm.MethodName)) ∈ lw_all := lw_g (lw_at lw_m5 16 rfl) rfl
theorem q1063 : (Jvm.Cond.privateMethod ({ cls := "DareFordModel", name := "isSpan", desc := "(III)Z" } : Jvm.MethodName)) ∈ lw_tbl := lw_at lw_m5 17 rfl
theorem q1064 : (Jvm.Cond.instanceMethod ({ cls := "DareFordModel", name := "isSpan", desc := "(III)Z" } : Jvm.MethodName)) ∈ lw_all := lw_g (lw_at lw_m5 18 rfl) rfl
theorem q1065 : (Jvm.Cond.code ({ cls := "DareFordModel", name := "isSpan", desc := "(III)Z" } : Jvm.MethodName) prog_10_method_14_code (4 : Nat) (Option.some Jvm.ClassFile.FieldType.boolean)) ∈ lw_all := lw_g (lw_at lw_m5 19 rfl) rfl
theorem q1067 : (Jvm.Cond.instanceMethod ({ cls := "DareFordModel", name := "mean", desc := "(I)I" } : Jvm.MethodName)) ∈ lw_all := lw_g (lw_at lw_m5 21 rfl) rfl
theorem q1068 : (Jvm.Cond.selects "DareFordModel" ({ cls := "DareFordModel", name := "mean", desc := "(I)I" } : Jvm.MethodName) ({ cls := "DareFordModel", name := "mean", desc := "(I)I" } : Jvm.MethodName)) ∈ lw_all := lw_g (lw_at lw_m5 22 rfl) rfl
theorem q1069 : (Jvm.Cond.code ({ cls := "DareFordModel", name := "mean", desc := "(I)I" } : Jvm.MethodName) prog_10_method_16_code (5 : Nat) (Option.some Jvm.ClassFile.FieldType.int)) ∈ lw_all := lw_g (lw_at lw_m5 23 rfl) rfl
theorem q1071 : (Jvm.Cond.instanceMethod ({ cls := "DareFordModel", name := "text", desc := "(II)I" } : Jvm.MethodName)) ∈ lw_all := lw_g (lw_at lw_m5 25 rfl) rfl
theorem q1072 : (Jvm.Cond.selects "DareFordModel" ({ cls := "DareFordModel", name := "text", desc := "(II)I" } : Jvm.MethodName) ({ cls := "DareFordModel", name := "text", desc := "(II)I" } : Jvm.MethodName)) ∈ lw_all := lw_g (lw_at lw_m5 26 rfl) rfl
theorem q1073 : (Jvm.Cond.code ({ cls := "DareFordModel", name := "text", desc := "(II)I" } : Jvm.MethodName) prog_10_method_17_code (4 : Nat) (Option.some Jvm.ClassFile.FieldType.int)) ∈ lw_all := lw_g (lw_at lw_m5 27 rfl) rfl
theorem q1074 : (Jvm.Cond.methodLink "DareFordModel" (88 : Nat) ({ cls := "DareFordModel", name := "isText", desc := "(I)Z" } : Jvm.MethodName)) ∈ lw_all := lw_g (lw_at lw_m5 28 rfl) rfl
theorem q1075 : (Jvm.Cond.static ({ cls := "DareFordModel", name := "isText", desc := "(I)Z" } : Jvm.MethodName)) ∈ lw_all := lw_g (lw_at lw_m5 29 rfl) rfl
theorem q1076 : (Jvm.Cond.code ({ cls := "DareFordModel", name := "isText", desc := "(I)Z" } : Jvm.MethodName) prog_10_method_7_code (1 : Nat) (Option.some Jvm.ClassFile.FieldType.boolean)) ∈ lw_all := lw_g (lw_at lw_m5 30 rfl) rfl
theorem q1077 : (Jvm.Cond.constantLong "DareFordModel" (63 : Nat) (3 : Int64)) ∈ lw_all := lw_g (lw_at lw_m5 31 rfl) rfl
theorem q1079 : (Jvm.Cond.instanceMethod ({ cls := "DareFordModel", name := "put", desc := "(III)I" } : Jvm.MethodName)) ∈ lw_all := lw_g (lw_at lw_m5 33 rfl) rfl
theorem q1080 : (Jvm.Cond.selects "DareFordModel" ({ cls := "DareFordModel", name := "put", desc := "(III)I" } : Jvm.MethodName) ({ cls := "DareFordModel", name := "put", desc := "(III)I" } : Jvm.MethodName)) ∈ lw_all := lw_g (lw_at lw_m5 34 rfl) rfl
theorem q1081 : (Jvm.Cond.code ({ cls := "DareFordModel", name := "put", desc := "(III)I" } : Jvm.MethodName) prog_10_method_18_code (5 : Nat) (Option.some Jvm.ClassFile.FieldType.int)) ∈ lw_all := lw_g (lw_at lw_m5 35 rfl) rfl
theorem q1083 : (Jvm.Cond.instanceMethod ({ cls := "DareFordModel", name := "fault", desc := "(I)I" } : Jvm.MethodName)) ∈ lw_all := lw_g (lw_at lw_m5 37 rfl) rfl
theorem q1084 : (Jvm.Cond.selects "DareFordModel" ({ cls := "DareFordModel", name := "fault", desc := "(I)I" } : Jvm.MethodName) ({ cls := "DareFordModel", name := "fault", desc := "(I)I" } : Jvm.MethodName)) ∈ lw_all := lw_g (lw_at lw_m5 38 rfl) rfl
theorem q1085 : (Jvm.Cond.code ({ cls := "DareFordModel", name := "fault", desc := "(I)I" } : Jvm.MethodName) prog_10_method_27_code (2 : Nat) (Option.some Jvm.ClassFile.FieldType.int)) ∈ lw_all := lw_g (lw_at lw_m5 39 rfl) rfl
theorem q1086 : (Jvm.Cond.methodLink "DareFordModel" (133 : Nat) ({ cls := "DareFordModel", name := "faultOf", desc := "(I)I" } : Jvm.MethodName)) ∈ lw_all := lw_g (lw_at lw_m5 40 rfl) rfl
theorem q1087 : (Jvm.Cond.privateMethod ({ cls := "DareFordModel", name := "faultOf", desc := "(I)I" } : Jvm.MethodName)) ∈ lw_tbl := lw_at lw_m5 41 rfl
theorem q1088 : (Jvm.Cond.instanceMethod ({ cls := "DareFordModel", name := "faultOf", desc := "(I)I" } : Jvm.MethodName)) ∈ lw_all := lw_g (lw_at lw_m5 42 rfl) rfl
theorem q1089 : (Jvm.Cond.code ({ cls := "DareFordModel", name := "faultOf", desc := "(I)I" } : Jvm.MethodName) prog_10_method_26_code (3 : Nat) (Option.some Jvm.ClassFile.FieldType.int)) ∈ lw_all := lw_g (lw_at lw_m5 43 rfl) rfl
theorem q1090 : (Jvm.Cond.methodLink "DareFordModel" (126 : Nat) ({ cls := "DareFordModel", name := "readsFord", desc := "()Z" } : Jvm.MethodName)) ∈ lw_all := lw_g (lw_at lw_m5 44 rfl) rfl
theorem q1091 : (Jvm.Cond.privateMethod ({ cls := "DareFordModel", name := "readsFord", desc := "()Z" } : Jvm.MethodName)) ∈ lw_tbl := lw_at lw_m5 45 rfl
theorem q1092 : (Jvm.Cond.instanceMethod ({ cls := "DareFordModel", name := "readsFord", desc := "()Z" } : Jvm.MethodName)) ∈ lw_all := lw_g (lw_at lw_m5 46 rfl) rfl
theorem q1093 : (Jvm.Cond.code ({ cls := "DareFordModel", name := "readsFord", desc := "()Z" } : Jvm.MethodName) prog_10_method_23_code (1 : Nat) (Option.some Jvm.ClassFile.FieldType.boolean)) ∈ lw_all := lw_g (lw_at lw_m5 47 rfl) rfl
theorem q1094 : (Jvm.Cond.methodLink "DareFordModel" (111 : Nat) ({ cls := "DareFordModel", name := "skip", desc := "()V" } : Jvm.MethodName)) ∈ lw_all := lw_g (lw_at lw_m5 48 rfl) rfl
theorem q1095 : (Jvm.Cond.privateMethod ({ cls := "DareFordModel", name := "skip", desc := "()V" } : Jvm.MethodName)) ∈ lw_tbl := lw_at lw_m5 49 rfl
theorem q1096 : (Jvm.Cond.instanceMethod ({ cls := "DareFordModel", name := "skip", desc := "()V" } : Jvm.MethodName)) ∈ lw_all := lw_g (lw_at lw_m5 50 rfl) rfl
theorem q1097 : (Jvm.Cond.code ({ cls := "DareFordModel", name := "skip", desc := "()V" } : Jvm.MethodName) prog_10_method_20_code (1 : Nat) (Option.none : Option Jvm.ClassFile.FieldType)) ∈ lw_all := lw_g (lw_at lw_m5 51 rfl) rfl
theorem q1098 : (Jvm.Cond.methodLink "DareFordModel" (100 : Nat) ({ cls := "DareFordModel", name := "here", desc := "()I" } : Jvm.MethodName)) ∈ lw_all := lw_g (lw_at lw_m5 52 rfl) rfl
theorem q1099 : (Jvm.Cond.privateMethod ({ cls := "DareFordModel", name := "here", desc := "()I" } : Jvm.MethodName)) ∈ lw_tbl := lw_at lw_m5 53 rfl
theorem q1100 : (Jvm.Cond.instanceMethod ({ cls := "DareFordModel", name := "here", desc := "()I" } : Jvm.MethodName)) ∈ lw_all := lw_g (lw_at lw_m5 54 rfl) rfl
theorem q1101 : (Jvm.Cond.code ({ cls := "DareFordModel", name := "here", desc := "()I" } : Jvm.MethodName) prog_10_method_19_code (1 : Nat) (Option.some Jvm.ClassFile.FieldType.int)) ∈ lw_all := lw_g (lw_at lw_m5 55 rfl) rfl
theorem q1102 : (Jvm.Cond.methodLink "DareFordModel" (108 : Nat) ({ cls := "DareFordModel", name := "figure", desc := "()I" } : Jvm.MethodName)) ∈ lw_all := lw_g (lw_at lw_m5 56 rfl) rfl
theorem q1103 : (Jvm.Cond.privateMethod ({ cls := "DareFordModel", name := "figure", desc := "()I" } : Jvm.MethodName)) ∈ lw_tbl := lw_at lw_m5 57 rfl
theorem q1104 : (Jvm.Cond.instanceMethod ({ cls := "DareFordModel", name := "figure", desc := "()I" } : Jvm.MethodName)) ∈ lw_all := lw_g (lw_at lw_m5 58 rfl) rfl
theorem q1105 : (Jvm.Cond.code ({ cls := "DareFordModel", name := "figure", desc := "()I" } : Jvm.MethodName) prog_10_method_21_code (1 : Nat) (Option.some Jvm.ClassFile.FieldType.int)) ∈ lw_all := lw_g (lw_at lw_m5 59 rfl) rfl
theorem q1106 : (Jvm.Cond.constantLong "DareFordModel" (104 : Nat) (48 : Int64)) ∈ lw_all := lw_g (lw_at lw_m5 60 rfl) rfl
theorem q1107 : (Jvm.Cond.constantLong "DareFordModel" (106 : Nat) (57 : Int64)) ∈ lw_all := lw_g (lw_at lw_m5 61 rfl) rfl
theorem q1108 : (Jvm.Cond.methodLink "DareFordModel" (130 : Nat) ({ cls := "DareFordModel", name := "readsOne", desc := "()Z" } : Jvm.MethodName)) ∈ lw_all := lw_g (lw_at lw_m5 62 rfl) rfl
theorem q1109 : (Jvm.Cond.privateMethod ({ cls := "DareFordModel", name := "readsOne", desc := "()Z" } : Jvm.MethodName)) ∈ lw_tbl := lw_at lw_m5 63 rfl
theorem q1110 : (Jvm.Cond.instanceMethod ({ cls := "DareFordModel", name := "readsOne", desc := "()Z" } : Jvm.MethodName)) ∈ lw_all := lw_g (lw_at lw_m5 64 rfl) rfl
theorem q1111 : (Jvm.Cond.code ({ cls := "DareFordModel", name := "readsOne", desc := "()Z" } : Jvm.MethodName) prog_10_method_25_code (5 : Nat) (Option.some Jvm.ClassFile.FieldType.boolean)) ∈ lw_all := lw_g (lw_at lw_m5 65 rfl) rfl
theorem q1112 : (Jvm.Cond.methodLink "DareFordModel" (120 : Nat) ({ cls := "DareFordModel", name := "kindOfLetter", desc := "(I)I" } : Jvm.MethodName)) ∈ lw_all := lw_g (lw_at lw_m5 66 rfl) rfl
theorem q1113 : (Jvm.Cond.static ({ cls := "DareFordModel", name := "kindOfLetter", desc := "(I)I" } : Jvm.MethodName)) ∈ lw_all := lw_g (lw_at lw_m5 67 rfl) rfl
theorem q1114 : (Jvm.Cond.code ({ cls := "DareFordModel", name := "kindOfLetter", desc := "(I)I" } : Jvm.MethodName) prog_10_method_24_code (1 : Nat) (Option.some Jvm.ClassFile.FieldType.int)) ∈ lw_all := lw_g (lw_at lw_m5 68 rfl) rfl
theorem q1115 : (Jvm.Cond.methodLink "DareFordModel" (123 : Nat) ({ cls := "DareFordModel", name := "twoFigures", desc := "(I)I" } : Jvm.MethodName)) ∈ lw_all := lw_g (lw_at lw_m5 69 rfl) rfl
theorem q1116 : (Jvm.Cond.privateMethod ({ cls := "DareFordModel", name := "twoFigures", desc := "(I)I" } : Jvm.MethodName)) ∈ lw_tbl := lw_at lw_m5 70 rfl
theorem q1117 : (Jvm.Cond.instanceMethod ({ cls := "DareFordModel", name := "twoFigures", desc := "(I)I" } : Jvm.MethodName)) ∈ lw_all := lw_g (lw_at lw_m5 71 rfl) rfl
theorem q1118 : (Jvm.Cond.code ({ cls := "DareFordModel", name := "twoFigures", desc := "(I)I" } : Jvm.MethodName) prog_10_method_22_code (5 : Nat) (Option.some Jvm.ClassFile.FieldType.int)) ∈ lw_all := lw_g (lw_at lw_m5 72 rfl) rfl
theorem q1120 : (Jvm.Cond.instanceMethod ({ cls := "DareFordModel", name := "river", desc := "(I)I" } : Jvm.MethodName)) ∈ lw_all := lw_g (lw_at lw_m5 74 rfl) rfl
theorem q1121 : (Jvm.Cond.selects "DareFordModel" ({ cls := "DareFordModel", name := "river", desc := "(I)I" } : Jvm.MethodName) ({ cls := "DareFordModel", name := "river", desc := "(I)I" } : Jvm.MethodName)) ∈ lw_all := lw_g (lw_at lw_m5 75 rfl) rfl
theorem q1122 : (Jvm.Cond.code ({ cls := "DareFordModel", name := "river", desc := "(I)I" } : Jvm.MethodName) prog_10_method_28_code (3 : Nat) (Option.some Jvm.ClassFile.FieldType.int)) ∈ lw_all := lw_g (lw_at lw_m5 76 rfl) rfl
theorem q1124 : (Jvm.Cond.instanceMethod ({ cls := "DareFordModel", name := "one", desc := "(II)I" } : Jvm.MethodName)) ∈ lw_all := lw_g (lw_at lw_m5 78 rfl) rfl
theorem q1125 : (Jvm.Cond.selects "DareFordModel" ({ cls := "DareFordModel", name := "one", desc := "(II)I" } : Jvm.MethodName) ({ cls := "DareFordModel", name := "one", desc := "(II)I" } : Jvm.MethodName)) ∈ lw_all := lw_g (lw_at lw_m5 79 rfl) rfl
theorem q1126 : (Jvm.Cond.code ({ cls := "DareFordModel", name := "one", desc := "(II)I" } : Jvm.MethodName) prog_10_method_38_code (3 : Nat) (Option.some Jvm.ClassFile.FieldType.int)) ∈ lw_all := lw_g (lw_at lw_m5 80 rfl) rfl
theorem q1127 : (Jvm.Cond.methodLink "DareFordModel" (162 : Nat) ({ cls := "DareFordModel", name := "isOne", desc := "(I)Z" } : Jvm.MethodName)) ∈ lw_all := lw_g (lw_at lw_m5 81 rfl) rfl
theorem q1128 : (Jvm.Cond.privateMethod ({ cls := "DareFordModel", name := "isOne", desc := "(I)Z" } : Jvm.MethodName)) ∈ lw_tbl := lw_at lw_m5 82 rfl
theorem q1129 : (Jvm.Cond.instanceMethod ({ cls := "DareFordModel", name := "isOne", desc := "(I)Z" } : Jvm.MethodName)) ∈ lw_all := lw_g (lw_at lw_m5 83 rfl) rfl
theorem q1130 : (Jvm.Cond.code ({ cls := "DareFordModel", name := "isOne", desc := "(I)Z" } : Jvm.MethodName) prog_10_method_29_code (2 : Nat) (Option.some Jvm.ClassFile.FieldType.boolean)) ∈ lw_all := lw_g (lw_at lw_m5 84 rfl) rfl
theorem q1131 : (Jvm.Cond.methodLink "DareFordModel" (165 : Nat) ({ cls := "DareFordModel", name := "toldOf", desc := "(II)I" } : Jvm.MethodName)) ∈ lw_all := lw_g (lw_at lw_m5 85 rfl) rfl
theorem q1132 : (Jvm.Cond.privateMethod ({ cls := "DareFordModel", name := "toldOf", desc := "(II)I" } : Jvm.MethodName)) ∈ lw_tbl := lw_at lw_m5 86 rfl
theorem q1133 : (Jvm.Cond.instanceMethod ({ cls := "DareFordModel", name := "toldOf", desc := "(II)I" } : Jvm.MethodName)) ∈ lw_all := lw_g (lw_at lw_m5 87 rfl) rfl
theorem q1134 : (Jvm.Cond.code ({ cls := "DareFordModel", name := "toldOf", desc := "(II)I" } : Jvm.MethodName) prog_10_method_37_code (3 : Nat) (Option.some Jvm.ClassFile.FieldType.int)) ∈ lw_all := lw_g (lw_at lw_m5 88 rfl) rfl
theorem q1135 : (Jvm.Cond.methodLink "DareFordModel" (153 : Nat) ({ cls := "DareFordModel", name := "daresIn", desc := "(II)I" } : Jvm.MethodName)) ∈ lw_all := lw_g (lw_at lw_m5 89 rfl) rfl
theorem q1136 : (Jvm.Cond.privateMethod ({ cls := "DareFordModel", name := "daresIn", desc := "(II)I" } : Jvm.MethodName)) ∈ lw_tbl := lw_at lw_m5 90 rfl
theorem q1137 : (Jvm.Cond.instanceMethod ({ cls := "DareFordModel", name := "daresIn", desc := "(II)I" } : Jvm.MethodName)) ∈ lw_all := lw_g (lw_at lw_m5 91 rfl) rfl
theorem q1138 : (Jvm.Cond.code ({ cls := "DareFordModel", name := "daresIn", desc := "(II)I" } : Jvm.MethodName) prog_10_method_33_code (3 : Nat) (Option.some Jvm.ClassFile.FieldType.int)) ∈ lw_all := lw_g (lw_at lw_m5 92 rfl) rfl
theorem q1139 : (Jvm.Cond.methodLink "DareFordModel" (142 : Nat) ({ cls := "DareFordModel", name := "farOf", desc := "(II)I" } : Jvm.MethodName)) ∈ lw_all := lw_g (lw_at lw_m5 93 rfl) rfl
theorem q1140 : (Jvm.Cond.privateMethod ({ cls := "DareFordModel", name := "farOf", desc := "(II)I" } : Jvm.MethodName)) ∈ lw_tbl := lw_at lw_m5 94 rfl
theorem q1141 : (Jvm.Cond.instanceMethod ({ cls := "DareFordModel", name := "farOf", desc := "(II)I" } : Jvm.MethodName)) ∈ lw_all := lw_g (lw_at lw_m5 95 rfl) rfl
theorem q1142 : (Jvm.Cond.code ({ cls := "DareFordModel", name := "farOf", desc := "(II)I" } : Jvm.MethodName) prog_10_method_32_code (3 : Nat) (Option.some Jvm.ClassFile.FieldType.int)) ∈ lw_all := lw_g (lw_at lw_m5 96 rfl) rfl
theorem q1143 : (Jvm.Cond.methodLink "DareFordModel" (139 : Nat) ({ cls := "DareFordModel", name := "apart", desc := "(II)I" } : Jvm.MethodName)) ∈ lw_all := lw_g (lw_at lw_m5 97 rfl) rfl
theorem q1144 : (Jvm.Cond.static ({ cls := "DareFordModel", name := "apart", desc := "(II)I" } : Jvm.MethodName)) ∈ lw_all := lw_g (lw_at lw_m5 98 rfl) rfl
theorem q1145 : (Jvm.Cond.code ({ cls := "DareFordModel", name := "apart", desc := "(II)I" } : Jvm.MethodName) prog_10_method_30_code (2 : Nat) (Option.some Jvm.ClassFile.FieldType.int)) ∈ lw_all := lw_g (lw_at lw_m5 99 rfl) rfl
theorem q1146 : (Jvm.Cond.methodLink "DareFordModel" (145 : Nat) ({ cls := "DareFordModel", name := "daresBy", desc := "(IIII)I" } : Jvm.MethodName)) ∈ lw_all := lw_g (lw_at lw_m5 100 rfl) rfl
theorem q1147 : (Jvm.Cond.static ({ cls := "DareFordModel", name := "daresBy", desc := "(IIII)I" } : Jvm.MethodName)) ∈ lw_all := lw_g (lw_at lw_m5 101 rfl) rfl
theorem q1148 : (Jvm.Cond.code ({ cls := "DareFordModel", name := "daresBy", desc := "(IIII)I" } : Jvm.MethodName) prog_10_method_31_code (5 : Nat) (Option.some Jvm.ClassFile.FieldType.int)) ∈ lw_all := lw_g (lw_at lw_m5 102 rfl) rfl
theorem q1150 : (Jvm.Cond.instanceMethod ({ cls := "DareFordModel", name := "mark", desc := "(II)I" } : Jvm.MethodName)) ∈ lw_all := lw_g (lw_at lw_m5 104 rfl) rfl
theorem q1151 : (Jvm.Cond.selects "DareFordModel" ({ cls := "DareFordModel", name := "mark", desc := "(II)I" } : Jvm.MethodName) ({ cls := "DareFordModel", name := "mark", desc := "(II)I" } : Jvm.MethodName)) ∈ lw_all := lw_g (lw_at lw_m5 105 rfl) rfl
theorem q1152 : (Jvm.Cond.code ({ cls := "DareFordModel", name := "mark", desc := "(II)I" } : Jvm.MethodName) prog_10_method_41_code (4 : Nat) (Option.some Jvm.ClassFile.FieldType.int)) ∈ lw_all := lw_g (lw_at lw_m5 106 rfl) rfl
theorem q1153 : (Jvm.Cond.methodLink "DareFordModel" (168 : Nat) ({ cls := "DareFordModel", name := "isOf", desc := "(II)Z" } : Jvm.MethodName)) ∈ lw_all := lw_g (lw_at lw_m5 107 rfl) rfl
theorem q1154 : (Jvm.Cond.privateMethod ({ cls := "DareFordModel", name := "isOf", desc := "(II)Z" } : Jvm.MethodName)) ∈ lw_tbl := lw_at lw_m5 108 rfl
theorem q1155 : (Jvm.Cond.instanceMethod ({ cls := "DareFordModel", name := "isOf", desc := "(II)Z" } : Jvm.MethodName)) ∈ lw_all := lw_g (lw_at lw_m5 109 rfl) rfl
theorem q1156 : (Jvm.Cond.code ({ cls := "DareFordModel", name := "isOf", desc := "(II)Z" } : Jvm.MethodName) prog_10_method_39_code (4 : Nat) (Option.some Jvm.ClassFile.FieldType.boolean)) ∈ lw_all := lw_g (lw_at lw_m5 110 rfl) rfl
theorem q1157 : (Jvm.Cond.methodLink "DareFordModel" (171 : Nat) ({ cls := "DareFordModel", name := "lesserThan", desc := "(I)I" } : Jvm.MethodName)) ∈ lw_all := lw_g (lw_at lw_m5 111 rfl) rfl
theorem q1158 : (Jvm.Cond.privateMethod ({ cls := "DareFordModel", name := "lesserThan", desc := "(I)I" } : Jvm.MethodName)) ∈ lw_tbl := lw_at lw_m5 112 rfl
theorem q1159 : (Jvm.Cond.instanceMethod ({ cls := "DareFordModel", name := "lesserThan", desc := "(I)I" } : Jvm.MethodName)) ∈ lw_all := lw_g (lw_at lw_m5 113 rfl) rfl
theorem q1160 : (Jvm.Cond.code ({ cls := "DareFordModel", name := "lesserThan", desc := "(I)I" } : Jvm.MethodName) prog_10_method_40_code (4 : Nat) (Option.some Jvm.ClassFile.FieldType.int)) ∈ lw_all := lw_g (lw_at lw_m5 114 rfl) rfl
theorem q1162 : (Jvm.Cond.instanceMethod ({ cls := "DareFordModel", name := "night", desc := "()I" } : Jvm.MethodName)) ∈ lw_all := lw_g (lw_at lw_m5 116 rfl) rfl
theorem q1163 : (Jvm.Cond.selects "DareFordModel" ({ cls := "DareFordModel", name := "night", desc := "()I" } : Jvm.MethodName) ({ cls := "DareFordModel", name := "night", desc := "()I" } : Jvm.MethodName)) ∈ lw_all := lw_g (lw_at lw_m5 117 rfl) rfl
theorem q1164 : (Jvm.Cond.code ({ cls := "DareFordModel", name := "night", desc := "()I" } : Jvm.MethodName) prog_10_method_43_code (1 : Nat) (Option.some Jvm.ClassFile.FieldType.int)) ∈ lw_all := lw_g (lw_at lw_m5 118 rfl) rfl
theorem q1165 : (Jvm.Cond.methodLink "DareFordModel" (174 : Nat) ({ cls := "DareFordModel", name := "keepPast", desc := "()V" } : Jvm.MethodName)) ∈ lw_all := lw_g (lw_at lw_m5 119 rfl) rfl
theorem q1166 : (Jvm.Cond.privateMethod ({ cls := "DareFordModel", name := "keepPast", desc := "()V" } : Jvm.MethodName)) ∈ lw_tbl := lw_at lw_m5 120 rfl
theorem q1167 : (Jvm.Cond.instanceMethod ({ cls := "DareFordModel", name := "keepPast", desc := "()V" } : Jvm.MethodName)) ∈ lw_all := lw_g (lw_at lw_m5 121 rfl) rfl
theorem q1168 : (Jvm.Cond.code ({ cls := "DareFordModel", name := "keepPast", desc := "()V" } : Jvm.MethodName) prog_10_method_42_code (2 : Nat) (Option.none : Option Jvm.ClassFile.FieldType)) ∈ lw_all := lw_g (lw_at lw_m5 122 rfl) rfl
theorem q1169 : (Jvm.Cond.methodLink "DareFordModel" (177 : Nat) ({ cls := "DareFordModel", name := "passes", desc := "(I)I" } : Jvm.MethodName)) ∈ lw_all := lw_g (lw_at lw_m5 123 rfl) rfl
theorem q1170 : (Jvm.Cond.privateMethod ({ cls := "DareFordModel", name := "passes", desc := "(I)I" } : Jvm.MethodName)) ∈ lw_tbl := lw_at lw_m5 124 rfl
theorem q1171 : (Jvm.Cond.instanceMethod ({ cls := "DareFordModel", name := "passes", desc := "(I)I" } : Jvm.MethodName)) ∈ lw_all := lw_g (lw_at lw_m5 125 rfl) rfl
theorem q1172 : (Jvm.Cond.code ({ cls := "DareFordModel", name := "passes", desc := "(I)I" } : Jvm.MethodName) prog_10_method_36_code (5 : Nat) (Option.some Jvm.ClassFile.FieldType.int)) ∈ lw_all := lw_g (lw_at lw_m5 126 rfl) rfl
theorem q1173 : (Jvm.Cond.methodLink "DareFordModel" (156 : Nat) ({ cls := "DareFordModel", name := "boldest", desc := "(II)I" } : Jvm.MethodName)) ∈ lw_all := lw_g (lw_at lw_m5 127 rfl) rfl
theorem q1174 : (Jvm.Cond.privateMethod ({ cls := "DareFordModel", name := "boldest", desc := "(II)I" } : Jvm.MethodName)) ∈ lw_tbl := lw_at lw_m5 128 rfl
theorem q1175 : (Jvm.Cond.instanceMethod ({ cls := "DareFordModel", name := "boldest", desc := "(II)I" } : Jvm.MethodName)) ∈ lw_all := lw_g (lw_at lw_m5 129 rfl) rfl
theorem q1176 : (Jvm.Cond.code ({ cls := "DareFordModel", name := "boldest", desc := "(II)I" } : Jvm.MethodName) prog_10_method_34_code (8 : Nat) (Option.some Jvm.ClassFile.FieldType.int)) ∈ lw_all := lw_g (lw_at lw_m5 130 rfl) rfl
theorem q1177 : (Jvm.Cond.methodLink "DareFordModel" (149 : Nat) ({ cls := "DareFordModel", name := "has", desc := "(II)Z" } : Jvm.MethodName)) ∈ lw_all := lw_g (lw_at lw_m5 131 rfl) rfl
theorem q1178 : (Jvm.Cond.static ({ cls := "DareFordModel", name := "has", desc := "(II)Z" } : Jvm.MethodName)) ∈ lw_all := lw_g (lw_at lw_m5 132 rfl) rfl
theorem q1179 : (Jvm.Cond.code ({ cls := "DareFordModel", name := "has", desc := "(II)Z" } : Jvm.MethodName) prog_10_method_3_code (2 : Nat) (Option.some Jvm.ClassFile.FieldType.boolean)) ∈ lw_all := lw_g (lw_at lw_m5 133 rfl) rfl
theorem q1180 : (Jvm.Cond.methodLink "DareFordModel" (159 : Nat) ({ cls := "DareFordModel", name := "fades", desc := "(I)I" } : Jvm.MethodName)) ∈ lw_all := lw_g (lw_at lw_m5 134 rfl) rfl
theorem q1181 : (Jvm.Cond.privateMethod ({ cls := "DareFordModel", name := "fades", desc := "(I)I" } : Jvm.MethodName)) ∈ lw_tbl := lw_at lw_m5 135 rfl
theorem q1182 : (Jvm.Cond.instanceMethod ({ cls := "DareFordModel", name := "fades", desc := "(I)I" } : Jvm.MethodName)) ∈ lw_all := lw_g (lw_at lw_m5 136 rfl) rfl
theorem q1183 : (Jvm.Cond.code ({ cls := "DareFordModel", name := "fades", desc := "(I)I" } : Jvm.MethodName) prog_10_method_35_code (2 : Nat) (Option.some Jvm.ClassFile.FieldType.int)) ∈ lw_all := lw_g (lw_at lw_m5 137 rfl) rfl
theorem q1185 : (Jvm.Cond.instanceMethod ({ cls := "DareFordModel", name := "raise", desc := "(II)I" } : Jvm.MethodName)) ∈ lw_all := lw_g (lw_at lw_m5 139 rfl) rfl
theorem q1186 : (Jvm.Cond.selects "DareFordModel" ({ cls := "DareFordModel", name := "raise", desc := "(II)I" } : Jvm.MethodName) ({ cls := "DareFordModel", name := "raise", desc := "(II)I" } : Jvm.MethodName)) ∈ lw_all := lw_g (lw_at lw_m5 140 rfl) rfl
theorem q1187 : (Jvm.Cond.code ({ cls := "DareFordModel", name := "raise", desc := "(II)I" } : Jvm.MethodName) prog_10_method_45_code (3 : Nat) (Option.some Jvm.ClassFile.FieldType.int)) ∈ lw_all := lw_g (lw_at lw_m5 141 rfl) rfl
theorem q1188 : (Jvm.Cond.constantLong "DareFordModel" (182 : Nat) (9 : Int64)) ∈ lw_all := lw_g (lw_at lw_m5 142 rfl) rfl
theorem q1189 : (Jvm.Cond.methodLink "DareFordModel" (184 : Nat) ({ cls := "DareFordModel", name := "makeDaring", desc := "(II)I" } : Jvm.MethodName)) ∈ lw_all := lw_g (lw_at lw_m5 143 rfl) rfl
theorem q1190 : (Jvm.Cond.privateMethod ({ cls := "DareFordModel", name := "makeDaring", desc := "(II)I" } : Jvm.MethodName)) ∈ lw_tbl := lw_at lw_m5 144 rfl
theorem q1191 : (Jvm.Cond.instanceMethod ({ cls := "DareFordModel", name := "makeDaring", desc := "(II)I" } : Jvm.MethodName)) ∈ lw_all := lw_g (lw_at lw_m5 145 rfl) rfl
theorem q1192 : (Jvm.Cond.code ({ cls := "DareFordModel", name := "makeDaring", desc := "(II)I" } : Jvm.MethodName) prog_10_method_44_code (3 : Nat) (Option.some Jvm.ClassFile.FieldType.int)) ∈ lw_all := lw_g (lw_at lw_m5 146 rfl) rfl
theorem q1193 : (Jvm.Cond.constantLong "DareFordModel" (180 : Nat) (20 : Int64)) ∈ lw_all := lw_g (lw_at lw_m5 147 rfl) rfl
theorem q1195 : (Jvm.Cond.instanceMethod ({ cls := "DareFordModel", name := "shame", desc := "(II)I" } : Jvm.MethodName)) ∈ lw_all := lw_g (lw_at lw_m5 149 rfl) rfl
theorem q1196 : (Jvm.Cond.selects "DareFordModel" ({ cls := "DareFordModel", name := "shame", desc := "(II)I" } : Jvm.MethodName) ({ cls := "DareFordModel", name := "shame", desc := "(II)I" } : Jvm.MethodName)) ∈ lw_all := lw_g (lw_at lw_m5 150 rfl) rfl
theorem q1197 : (Jvm.Cond.code ({ cls := "DareFordModel", name := "shame", desc := "(II)I" } : Jvm.MethodName) prog_10_method_46_code (3 : Nat) (Option.some Jvm.ClassFile.FieldType.int)) ∈ lw_all := lw_g (lw_at lw_m5 151 rfl) rfl
theorem q1199 : (Jvm.Cond.instanceMethod ({ cls := "DareFordModel", name := "door", desc := "(II)I" } : Jvm.MethodName)) ∈ lw_all := lw_g (lw_at lw_m5 153 rfl) rfl
theorem q1200 : (Jvm.Cond.selects "DareFordModel" ({ cls := "DareFordModel", name := "door", desc := "(II)I" } : Jvm.MethodName) ({ cls := "DareFordModel", name := "door", desc := "(II)I" } : Jvm.MethodName)) ∈ lw_all := lw_g (lw_at lw_m5 154 rfl) rfl
theorem q1201 : (Jvm.Cond.code ({ cls := "DareFordModel", name := "door", desc := "(II)I" } : Jvm.MethodName) prog_10_method_47_code (4 : Nat) (Option.some Jvm.ClassFile.FieldType.int)) ∈ lw_all := lw_g (lw_at lw_m5 155 rfl) rfl
theorem q1203 : (Jvm.Cond.instanceMethod ({ cls := "DareFordModel", name := "undo", desc := "(I)I" } : Jvm.MethodName)) ∈ lw_all := lw_g (lw_at lw_m5 157 rfl) rfl
theorem q1204 : (Jvm.Cond.selects "DareFordModel" ({ cls := "DareFordModel", name := "undo", desc := "(I)I" } : Jvm.MethodName) ({ cls := "DareFordModel", name := "undo", desc := "(I)I" } : Jvm.MethodName)) ∈ lw_all := lw_g (lw_at lw_m5 158 rfl) rfl
theorem q1205 : (Jvm.Cond.code ({ cls := "DareFordModel", name := "undo", desc := "(I)I" } : Jvm.MethodName) prog_10_method_48_code (4 : Nat) (Option.some Jvm.ClassFile.FieldType.int)) ∈ lw_all := lw_g (lw_at lw_m5 159 rfl) rfl
theorem q1207 : (Jvm.Cond.instanceMethod ({ cls := "DareFordModel", name := "keep", desc := "(I)I" } : Jvm.MethodName)) ∈ lw_all := lw_g (lw_at lw_m5 161 rfl) rfl
theorem q1208 : (Jvm.Cond.selects "DareFordModel" ({ cls := "DareFordModel", name := "keep", desc := "(I)I" } : Jvm.MethodName) ({ cls := "DareFordModel", name := "keep", desc := "(I)I" } : Jvm.MethodName)) ∈ lw_all := lw_g (lw_at lw_m5 162 rfl) rfl
theorem q1209 : (Jvm.Cond.code ({ cls := "DareFordModel", name := "keep", desc := "(I)I" } : Jvm.MethodName) prog_10_method_50_code (2 : Nat) (Option.some Jvm.ClassFile.FieldType.int)) ∈ lw_all := lw_g (lw_at lw_m5 163 rfl) rfl
theorem q1210 : (Jvm.Cond.constantLong "DareFordModel" (187 : Nat) (2 : Int64)) ∈ lw_all := lw_g (lw_at lw_m5 164 rfl) rfl
theorem q1211 : (Jvm.Cond.methodLink "DareFordModel" (189 : Nat) ({ cls := "DareFordModel", name := "copyRiver", desc := "(II)V" } : Jvm.MethodName)) ∈ lw_all := lw_g (lw_at lw_m5 165 rfl) rfl
theorem q1212 : (Jvm.Cond.privateMethod ({ cls := "DareFordModel", name := "copyRiver", desc := "(II)V" } : Jvm.MethodName)) ∈ lw_tbl := lw_at lw_m5 166 rfl
theorem q1213 : (Jvm.Cond.instanceMethod ({ cls := "DareFordModel", name := "copyRiver", desc := "(II)V" } : Jvm.MethodName)) ∈ lw_all := lw_g (lw_at lw_m5 167 rfl) rfl
theorem q1214 : (Jvm.Cond.code ({ cls := "DareFordModel", name := "copyRiver", desc := "(II)V" } : Jvm.MethodName) prog_10_method_49_code (4 : Nat) (Option.none : Option Jvm.ClassFile.FieldType)) ∈ lw_all := lw_g (lw_at lw_m5 168 rfl) rfl
theorem q1216 : (Jvm.Cond.instanceMethod ({ cls := "DareFordModel", name := "on", desc := "(I)I" } : Jvm.MethodName)) ∈ lw_all := lw_g (lw_at lw_m5 170 rfl) rfl
theorem q1217 : (Jvm.Cond.selects "DareFordModel" ({ cls := "DareFordModel", name := "on", desc := "(I)I" } : Jvm.MethodName) ({ cls := "DareFordModel", name := "on", desc := "(I)I" } : Jvm.MethodName)) ∈ lw_all := lw_g (lw_at lw_m5 171 rfl) rfl
theorem q1218 : (Jvm.Cond.code ({ cls := "DareFordModel", name := "on", desc := "(I)I" } : Jvm.MethodName) prog_10_method_51_code (2 : Nat) (Option.some Jvm.ClassFile.FieldType.int)) ∈ lw_all := lw_g (lw_at lw_m5 172 rfl) rfl
theorem q1220 : (Jvm.Cond.instanceMethod ({ cls := "DareFordModel", name := "dares", desc := "(IIII)I" } : Jvm.MethodName)) ∈ lw_all := lw_g (lw_at lw_m5 174 rfl) rfl
theorem q1221 : (Jvm.Cond.selects "DareFordModel" ({ cls := "DareFordModel", name := "dares", desc := "(IIII)I" } : Jvm.MethodName) ({ cls := "DareFordModel", name := "dares", desc := "(IIII)I" } : Jvm.MethodName)) ∈ lw_all := lw_g (lw_at lw_m5 175 rfl) rfl
theorem q1222 : (Jvm.Cond.code ({ cls := "DareFordModel", name := "dares", desc := "(IIII)I" } : Jvm.MethodName) prog_10_method_53_code (5 : Nat) (Option.some Jvm.ClassFile.FieldType.int)) ∈ lw_all := lw_g (lw_at lw_m5 176 rfl) rfl
theorem q1223 : (Jvm.Cond.constantLong "DareFordModel" (192 : Nat) (99 : Int64)) ∈ lw_all := lw_g (lw_at lw_m5 177 rfl) rfl
theorem q1225 : (Jvm.Cond.instanceMethod ({ cls := "DareFordModel", name := "where", desc := "(I)I" } : Jvm.MethodName)) ∈ lw_all := lw_g (lw_at lw_m5 179 rfl) rfl
theorem q1226 : (Jvm.Cond.selects "DareFordModel" ({ cls := "DareFordModel", name := "where", desc := "(I)I" } : Jvm.MethodName) ({ cls := "DareFordModel", name := "where", desc := "(I)I" } : Jvm.MethodName)) ∈ lw_all := lw_g (lw_at lw_m5 180 rfl) rfl
theorem q1227 : (Jvm.Cond.code ({ cls := "DareFordModel", name := "where", desc := "(I)I" } : Jvm.MethodName) prog_10_method_54_code (3 : Nat) (Option.some Jvm.ClassFile.FieldType.int)) ∈ lw_all := lw_g (lw_at lw_m5 181 rfl) rfl
theorem q1228 : (Jvm.Cond.constantLong "DareFordModel" (194 : Nat) (40 : Int64)) ∈ lw_all := lw_g (lw_at lw_m5 182 rfl) rfl
theorem q1229 : (Jvm.Cond.methodLink "DareFordModel" (196 : Nat) ({ cls := "DareFordModel", name := "layTried", desc := "()V" } : Jvm.MethodName)) ∈ lw_all := lw_g (lw_at lw_m5 183 rfl) rfl
theorem q1230 : (Jvm.Cond.privateMethod ({ cls := "DareFordModel", name := "layTried", desc := "()V" } : Jvm.MethodName)) ∈ lw_tbl := lw_at lw_m5 184 rfl
theorem q1231 : (Jvm.Cond.instanceMethod ({ cls := "DareFordModel", name := "layTried", desc := "()V" } : Jvm.MethodName)) ∈ lw_all := lw_g (lw_at lw_m5 185 rfl) rfl
theorem q1232 : (Jvm.Cond.code ({ cls := "DareFordModel", name := "layTried", desc := "()V" } : Jvm.MethodName) prog_10_method_52_code (2 : Nat) (Option.none : Option Jvm.ClassFile.FieldType)) ∈ lw_all := lw_g (lw_at lw_m5 186 rfl) rfl
theorem q1234 : (Jvm.Cond.instanceMethod ({ cls := "DareFordModel", name := "crosses", desc := "(II)I" } : Jvm.MethodName)) ∈ lw_all := lw_g (lw_at lw_m5 188 rfl) rfl
theorem q1235 : (Jvm.Cond.selects "DareFordModel" ({ cls := "DareFordModel", name := "crosses", desc := "(II)I" } : Jvm.MethodName) ({ cls := "DareFordModel", name := "crosses", desc := "(II)I" } : Jvm.MethodName)) ∈ lw_all := lw_g (lw_at lw_m5 189 rfl) rfl
theorem q1236 : (Jvm.Cond.code ({ cls := "DareFordModel", name := "crosses", desc := "(II)I" } : Jvm.MethodName) prog_10_method_55_code (4 : Nat) (Option.some Jvm.ClassFile.FieldType.int)) ∈ lw_all := lw_g (lw_at lw_m5 190 rfl) rfl
theorem q1238 : (Jvm.Cond.instanceMethod ({ cls := "DareFordModel", name := "first", desc := "(I)I" } : Jvm.MethodName)) ∈ lw_all := lw_g (lw_at lw_m5 192 rfl) rfl
theorem q1239 : (Jvm.Cond.selects "DareFordModel" ({ cls := "DareFordModel", name := "first", desc := "(I)I" } : Jvm.MethodName) ({ cls := "DareFordModel", name := "first", desc := "(I)I" } : Jvm.MethodName)) ∈ lw_all := lw_g (lw_at lw_m5 193 rfl) rfl
theorem q1240 : (Jvm.Cond.code ({ cls := "DareFordModel", name := "first", desc := "(I)I" } : Jvm.MethodName) prog_10_method_56_code (3 : Nat) (Option.some Jvm.ClassFile.FieldType.int)) ∈ lw_all := lw_g (lw_at lw_m5 194 rfl) rfl
theorem q1242 : (Jvm.Cond.instanceMethod ({ cls := "DareFordModel", name := "lift", desc := "(II)I" } : Jvm.MethodName)) ∈ lw_all := lw_g (lw_at lw_m5 196 rfl) rfl
theorem q1243 : (Jvm.Cond.selects "DareFordModel" ({ cls := "DareFordModel", name := "lift", desc := "(II)I" } : Jvm.MethodName) ({ cls := "DareFordModel", name := "lift", desc := "(II)I" } : Jvm.MethodName)) ∈ lw_all := lw_g (lw_at lw_m5 197 rfl) rfl
theorem q1244 : (Jvm.Cond.code ({ cls := "DareFordModel", name := "lift", desc := "(II)I" } : Jvm.MethodName) prog_10_method_58_code (4 : Nat) (Option.some Jvm.ClassFile.FieldType.int)) ∈ lw_all := lw_g (lw_at lw_m5 198 rfl) rfl
theorem q1245 : (Jvm.Cond.methodLink "DareFordModel" (199 : Nat) ({ cls := "DareFordModel", name := "hasBy", desc := "(III)I" } : Jvm.MethodName)) ∈ lw_all := lw_g (lw_at lw_m5 199 rfl) rfl
theorem q1246 : (Jvm.Cond.privateMethod ({ cls := "DareFordModel", name := "hasBy", desc := "(III)I" } : Jvm.MethodName)) ∈ lw_tbl := lw_at lw_m5 200 rfl
theorem q1247 : (Jvm.Cond.instanceMethod ({ cls := "DareFordModel", name := "hasBy", desc := "(III)I" } : Jvm.MethodName)) ∈ lw_all := lw_g (lw_at lw_m5 201 rfl) rfl
theorem q1248 : (Jvm.Cond.code ({ cls := "DareFordModel", name := "hasBy", desc := "(III)I" } : Jvm.MethodName) prog_10_method_57_code (6 : Nat) (Option.some Jvm.ClassFile.FieldType.int)) ∈ lw_all := lw_g (lw_at lw_m5 202 rfl) rfl
theorem q1250 : (Jvm.Cond.instanceMethod ({ cls := "DareFordModel", name := "cheap", desc := "(II)I" } : Jvm.MethodName)) ∈ lw_all := lw_g (lw_at lw_m5 204 rfl) rfl
theorem q1251 : (Jvm.Cond.selects "DareFordModel" ({ cls := "DareFordModel", name := "cheap", desc := "(II)I" } : Jvm.MethodName) ({ cls := "DareFordModel", name := "cheap", desc := "(II)I" } : Jvm.MethodName)) ∈ lw_all := lw_g (lw_at lw_m5 205 rfl) rfl
theorem q1252 : (Jvm.Cond.code ({ cls := "DareFordModel", name := "cheap", desc := "(II)I" } : Jvm.MethodName) prog_10_method_62_code (7 : Nat) (Option.some Jvm.ClassFile.FieldType.int)) ∈ lw_all := lw_g (lw_at lw_m5 206 rfl) rfl
theorem q1253 : (Jvm.Cond.constant "DareFordModel" (210 : Nat) (99999 : Int32)) ∈ lw_all := lw_g (lw_at lw_m5 207 rfl) rfl
theorem q1254 : (Jvm.Cond.methodLink "DareFordModel" (211 : Nat) ({ cls := "DareFordModel", name := "together", desc := "(II)I" } : Jvm.MethodName)) ∈ lw_all := lw_g (lw_at lw_m5 208 rfl) rfl
theorem q1255 : (Jvm.Cond.privateMethod ({ cls := "DareFordModel", name := "together", desc := "(II)I" } : Jvm.MethodName)) ∈ lw_tbl := lw_at lw_m5 209 rfl
theorem q1256 : (Jvm.Cond.instanceMethod ({ cls := "DareFordModel", name := "together", desc := "(II)I" } : Jvm.MethodName)) ∈ lw_all := lw_g (lw_at lw_m5 210 rfl) rfl
theorem q1257 : (Jvm.Cond.code ({ cls := "DareFordModel", name := "together", desc := "(II)I" } : Jvm.MethodName) prog_10_method_61_code (6 : Nat) (Option.some Jvm.ClassFile.FieldType.int)) ∈ lw_all := lw_g (lw_at lw_m5 211 rfl) rfl
theorem q1258 : (Jvm.Cond.methodLink "DareFordModel" (207 : Nat) ({ cls := "DareFordModel", name := "shamed", desc := "(III)I" } : Jvm.MethodName)) ∈ lw_all := lw_g (lw_at lw_m5 212 rfl) rfl
theorem q1259 : (Jvm.Cond.privateMethod ({ cls := "DareFordModel", name := "shamed", desc := "(III)I" } : Jvm.MethodName)) ∈ lw_tbl := lw_at lw_m5 213 rfl
theorem q1260 : (Jvm.Cond.instanceMethod ({ cls := "DareFordModel", name := "shamed", desc := "(III)I" } : Jvm.MethodName)) ∈ lw_all := lw_g (lw_at lw_m5 214 rfl) rfl
theorem q1261 : (Jvm.Cond.code ({ cls := "DareFordModel", name := "shamed", desc := "(III)I" } : Jvm.MethodName) prog_10_method_60_code (5 : Nat) (Option.some Jvm.ClassFile.FieldType.int)) ∈ lw_all := lw_g (lw_at lw_m5 215 rfl) rfl
theorem q1262 : (Jvm.Cond.methodLink "DareFordModel" (203 : Nat) ({ cls := "DareFordModel", name := "isAhead", desc := "(IIII)Z" } : Jvm.MethodName)) ∈ lw_all := lw_g (lw_at lw_m5 216 rfl) rfl
theorem q1263 : (Jvm.Cond.privateMethod ({ cls := "DareFordModel", name := "isAhead", desc := "(IIII)Z" } : Jvm.MethodName)) ∈ lw_tbl := lw_at lw_m5 217 rfl
theorem q1264 : (Jvm.Cond.instanceMethod ({ cls := "DareFordModel", name := "isAhead", desc := "(IIII)Z" } : Jvm.MethodName)) ∈ lw_all := lw_g (lw_at lw_m5 218 rfl) rfl
theorem q1265 : (Jvm.Cond.code ({ cls := "DareFordModel", name := "isAhead", desc := "(IIII)Z" } : Jvm.MethodName) prog_10_method_59_code (7 : Nat) (Option.some Jvm.ClassFile.FieldType.boolean)) ∈ lw_all := lw_g (lw_at lw_m5 219 rfl) rfl
theorem q1267 : (Jvm.Cond.instanceMethod ({ cls := "DareFordModel", name := "darings", desc := "(II)I" } : Jvm.MethodName)) ∈ lw_all := lw_g (lw_at lw_m5 221 rfl) rfl
theorem q1268 : (Jvm.Cond.selects "DareFordModel" ({ cls := "DareFordModel", name := "darings", desc := "(II)I" } : Jvm.MethodName) ({ cls := "DareFordModel", name := "darings", desc := "(II)I" } : Jvm.MethodName)) ∈ lw_all := lw_g (lw_at lw_m5 222 rfl) rfl
theorem q1269 : (Jvm.Cond.code ({ cls := "DareFordModel", name := "darings", desc := "(II)I" } : Jvm.MethodName) prog_10_method_66_code (4 : Nat) (Option.some Jvm.ClassFile.FieldType.int)) ∈ lw_all := lw_g (lw_at lw_m5 223 rfl) rfl
theorem q1270 : (Jvm.Cond.methodLink "DareFordModel" (219 : Nat) ({ cls := "DareFordModel", name := "noRow", desc := "(I)I" } : Jvm.MethodName)) ∈ lw_all := lw_g (lw_at lw_m5 224 rfl) rfl
theorem q1271 : (Jvm.Cond.privateMethod ({ cls := "DareFordModel", name := "noRow", desc := "(I)I" } : Jvm.MethodName)) ∈ lw_tbl := lw_at lw_m5 225 rfl
theorem q1272 : (Jvm.Cond.instanceMethod ({ cls := "DareFordModel", name := "noRow", desc := "(I)I" } : Jvm.MethodName)) ∈ lw_all := lw_g (lw_at lw_m5 226 rfl) rfl
theorem q1273 : (Jvm.Cond.code ({ cls := "DareFordModel", name := "noRow", desc := "(I)I" } : Jvm.MethodName) prog_10_method_63_code (4 : Nat) (Option.some Jvm.ClassFile.FieldType.int)) ∈ lw_all := lw_g (lw_at lw_m5 227 rfl) rfl
theorem q1274 : (Jvm.Cond.constantLong "DareFordModel" (214 : Nat) (10 : Int64)) ∈ lw_all := lw_g (lw_at lw_m5 228 rfl) rfl
theorem q1275 : (Jvm.Cond.methodLink "DareFordModel" (222 : Nat) ({ cls := "DareFordModel", name := "daringsBy", desc := "(II)I" } : Jvm.MethodName)) ∈ lw_all := lw_g (lw_at lw_m5 229 rfl) rfl
theorem q1276 : (Jvm.Cond.privateMethod ({ cls := "DareFordModel", name := "daringsBy", desc := "(II)I" } : Jvm.MethodName)) ∈ lw_tbl := lw_at lw_m5 230 rfl
theorem q1277 : (Jvm.Cond.instanceMethod ({ cls := "DareFordModel", name := "daringsBy", desc := "(II)I" } : Jvm.MethodName)) ∈ lw_all := lw_g (lw_at lw_m5 231 rfl) rfl
theorem q1278 : (Jvm.Cond.code ({ cls := "DareFordModel", name := "daringsBy", desc := "(II)I" } : Jvm.MethodName) prog_10_method_65_code (5 : Nat) (Option.some Jvm.ClassFile.FieldType.int)) ∈ lw_all := lw_g (lw_at lw_m5 232 rfl) rfl
theorem q1279 : (Jvm.Cond.methodLink "DareFordModel" (216 : Nat) ({ cls := "DareFordModel", name := "isSo", desc := "(I)Z" } : Jvm.MethodName)) ∈ lw_all := lw_g (lw_at lw_m5 233 rfl) rfl
theorem q1280 : (Jvm.Cond.privateMethod ({ cls := "DareFordModel", name := "isSo", desc := "(I)Z" } : Jvm.MethodName)) ∈ lw_tbl := lw_at lw_m5 234 rfl
theorem q1281 : (Jvm.Cond.instanceMethod ({ cls := "DareFordModel", name := "isSo", desc := "(I)Z" } : Jvm.MethodName)) ∈ lw_all := lw_g (lw_at lw_m5 235 rfl) rfl
theorem q1282 : (Jvm.Cond.code ({ cls := "DareFordModel", name := "isSo", desc := "(I)Z" } : Jvm.MethodName) prog_10_method_64_code (4 : Nat) (Option.some Jvm.ClassFile.FieldType.boolean)) ∈ lw_all := lw_g (lw_at lw_m5 236 rfl) rfl
theorem q1284 : (Jvm.Cond.instanceMethod ({ cls := "DareFordModel", name := "kinds", desc := "(II)I" } : Jvm.MethodName)) ∈ lw_all := lw_g (lw_at lw_m5 238 rfl) rfl
theorem q1285 : (Jvm.Cond.selects "DareFordModel" ({ cls := "DareFordModel", name := "kinds", desc := "(II)I" } : Jvm.MethodName) ({ cls := "DareFordModel", name := "kinds", desc := "(II)I" } : Jvm.MethodName)) ∈ lw_all := lw_g (lw_at lw_m5 239 rfl) rfl
theorem q1286 : (Jvm.Cond.code ({ cls := "DareFordModel", name := "kinds", desc := "(II)I" } : Jvm.MethodName) prog_10_method_67_code (7 : Nat) (Option.some Jvm.ClassFile.FieldType.int)) ∈ lw_all := lw_g (lw_at lw_m6 0 rfl) rfl
theorem q1288 : (Jvm.Cond.instanceMethod ({ cls := "DareFordModel", name := "look", desc := "(II)I" } : Jvm.MethodName)) ∈ lw_all := lw_g (lw_at lw_m6 2 rfl) rfl
theorem q1289 : (Jvm.Cond.selects "DareFordModel" ({ cls := "DareFordModel", name := "look", desc := "(II)I" } : Jvm.MethodName) ({ cls := "DareFordModel", name := "look", desc := "(II)I" } : Jvm.MethodName)) ∈ lw_all := lw_g (lw_at lw_m6 3 rfl) rfl
theorem q1290 : (Jvm.Cond.code ({ cls := "DareFordModel", name := "look", desc := "(II)I" } : Jvm.MethodName) prog_10_method_70_code (9 : Nat) (Option.some Jvm.ClassFile.FieldType.int)) ∈ lw_all := lw_g (lw_at lw_m6 4 rfl) rfl
theorem q1291 : (Jvm.Cond.methodLink "DareFordModel" (225 : Nat) ({ cls := "DareFordModel", name := "layParts", desc := "(II)V" } : Jvm.MethodName)) ∈ lw_all := lw_g (lw_at lw_m6 5 rfl) rfl
theorem q1292 : (Jvm.Cond.privateMethod ({ cls := "DareFordModel", name := "layParts", desc := "(II)V" } : Jvm.MethodName)) ∈ lw_tbl := lw_at lw_m6 6 rfl
theorem q1293 : (Jvm.Cond.instanceMethod ({ cls := "DareFordModel", name := "layParts", desc := "(II)V" } : Jvm.MethodName)) ∈ lw_all := lw_g (lw_at lw_m6 7 rfl) rfl
theorem q1294 : (Jvm.Cond.code ({ cls := "DareFordModel", name := "layParts", desc := "(II)V" } : Jvm.MethodName) prog_10_method_68_code (6 : Nat) (Option.none : Option Jvm.ClassFile.FieldType)) ∈ lw_all := lw_g (lw_at lw_m6 8 rfl) rfl
theorem q1295 : (Jvm.Cond.methodLink "DareFordModel" (228 : Nat) ({ cls := "DareFordModel", name := "greatestPart", desc := "(I)I" } : Jvm.MethodName)) ∈ lw_all := lw_g (lw_at lw_m6 9 rfl) rfl
theorem q1296 : (Jvm.Cond.privateMethod ({ cls := "DareFordModel", name := "greatestPart", desc := "(I)I" } : Jvm.MethodName)) ∈ lw_tbl := lw_at lw_m6 10 rfl
theorem q1297 : (Jvm.Cond.instanceMethod ({ cls := "DareFordModel", name := "greatestPart", desc := "(I)I" } : Jvm.MethodName)) ∈ lw_all := lw_g (lw_at lw_m6 11 rfl) rfl
theorem q1298 : (Jvm.Cond.code ({ cls := "DareFordModel", name := "greatestPart", desc := "(I)I" } : Jvm.MethodName) prog_10_method_69_code (4 : Nat) (Option.some Jvm.ClassFile.FieldType.int)) ∈ lw_all := lw_g (lw_at lw_m6 12 rfl) rfl
theorem q1300 : (Jvm.Cond.instanceMethod ({ cls := "DareFordModel", name := "sets", desc := "(I)I" } : Jvm.MethodName)) ∈ lw_all := lw_g (lw_at lw_m6 14 rfl) rfl
theorem q1301 : (Jvm.Cond.selects "DareFordModel" ({ cls := "DareFordModel", name := "sets", desc := "(I)I" } : Jvm.MethodName) ({ cls := "DareFordModel", name := "sets", desc := "(I)I" } : Jvm.MethodName)) ∈ lw_all := lw_g (lw_at lw_m6 15 rfl) rfl
theorem q1302 : (Jvm.Cond.code ({ cls := "DareFordModel", name := "sets", desc := "(I)I" } : Jvm.MethodName) prog_10_method_73_code (6 : Nat) (Option.some Jvm.ClassFile.FieldType.int)) ∈ lw_all := lw_g (lw_at lw_m6 16 rfl) rfl
theorem q1303 : (Jvm.Cond.methodLink "DareFordModel" (233 : Nat) ({ cls := "DareFordModel", name := "noSets", desc := "(I)I" } : Jvm.MethodName)) ∈ lw_all := lw_g (lw_at lw_m6 17 rfl) rfl
theorem q1304 : (Jvm.Cond.privateMethod ({ cls := "DareFordModel", name := "noSets", desc := "(I)I" } : Jvm.MethodName)) ∈ lw_tbl := lw_at lw_m6 18 rfl
theorem q1305 : (Jvm.Cond.instanceMethod ({ cls := "DareFordModel", name := "noSets", desc := "(I)I" } : Jvm.MethodName)) ∈ lw_all := lw_g (lw_at lw_m6 19 rfl) rfl
theorem q1306 : (Jvm.Cond.code ({ cls := "DareFordModel", name := "noSets", desc := "(I)I" } : Jvm.MethodName) prog_10_method_72_code (2 : Nat) (Option.some Jvm.ClassFile.FieldType.int)) ∈ lw_all := lw_g (lw_at lw_m6 20 rfl) rfl
theorem q1307 : (Jvm.Cond.constantLong "DareFordModel" (231 : Nat) (120 : Int64)) ∈ lw_all := lw_g (lw_at lw_m6 21 rfl) rfl
theorem q1308 : (Jvm.Cond.methodLink "DareFordModel" (236 : Nat) ({ cls := "DareFordModel", name := "daringOf", desc := "(I)I" } : Jvm.MethodName)) ∈ lw_all := lw_g (lw_at lw_m6 22 rfl) rfl
theorem q1309 : (Jvm.Cond.privateMethod ({ cls := "DareFordModel", name := "daringOf", desc := "(I)I" } : Jvm.MethodName)) ∈ lw_tbl := lw_at lw_m6 23 rfl
theorem q1310 : (Jvm.Cond.instanceMethod ({ cls := "DareFordModel", name := "daringOf", desc := "(I)I" } : Jvm.MethodName)) ∈ lw_all := lw_g (lw_at lw_m6 24 rfl) rfl
theorem q1311 : (Jvm.Cond.code ({ cls := "DareFordModel", name := "daringOf", desc := "(I)I" } : Jvm.MethodName) prog_10_method_71_code (4 : Nat) (Option.some Jvm.ClassFile.FieldType.int)) ∈ lw_all := lw_g (lw_at lw_m6 25 rfl) rfl
theorem q1313 : (Jvm.Cond.instanceMethod ({ cls := "DareFordModel", name := "sure", desc := "(I)I" } : Jvm.MethodName)) ∈ lw_all := lw_g (lw_at lw_m6 27 rfl) rfl
theorem q1314 : (Jvm.Cond.selects "DareFordModel" ({ cls := "DareFordModel", name := "sure", desc := "(I)I" } : Jvm.MethodName) ({ cls := "DareFordModel", name := "sure", desc := "(I)I" } : Jvm.MethodName)) ∈ lw_all := lw_g (lw_at lw_m6 28 rfl) rfl
theorem q1315 : (Jvm.Cond.code ({ cls := "DareFordModel", name := "sure", desc := "(I)I" } : Jvm.MethodName) prog_10_method_74_code (8 : Nat) (Option.some Jvm.ClassFile.FieldType.int)) ∈ lw_all := lw_g (lw_at lw_m6 29 rfl) rfl
theorem q1317 : (Jvm.Cond.instanceMethod ({ cls := "DareFordModel", name := "duel", desc := "(III)I" } : Jvm.MethodName)) ∈ lw_all := lw_g (lw_at lw_m6 31 rfl) rfl
theorem q1318 : (Jvm.Cond.selects "DareFordModel" ({ cls := "DareFordModel", name := "duel", desc := "(III)I" } : Jvm.MethodName) ({ cls := "DareFordModel", name := "duel", desc := "(III)I" } : Jvm.MethodName)) ∈ lw_all := lw_g (lw_at lw_m6 32 rfl) rfl
theorem q1319 : (Jvm.Cond.code ({ cls := "DareFordModel", name := "duel", desc := "(III)I" } : Jvm.MethodName) prog_10_method_77_code (12 : Nat) (Option.some Jvm.ClassFile.FieldType.int)) ∈ lw_all := lw_g (lw_at lw_m6 33 rfl) rfl
theorem q1320 : (Jvm.Cond.methodLink "DareFordModel" (245 : Nat) ({ cls := "DareFordModel", name := "comes", desc := "(IIII)I" } : Jvm.MethodName)) ∈ lw_all := lw_g (lw_at lw_m6 34 rfl) rfl
theorem q1321 : (Jvm.Cond.privateMethod ({ cls := "DareFordModel", name := "comes", desc := "(IIII)I" } : Jvm.MethodName)) ∈ lw_tbl := lw_at lw_m6 35 rfl
theorem q1322 : (Jvm.Cond.instanceMethod ({ cls := "DareFordModel", name := "comes", desc := "(IIII)I" } : Jvm.MethodName)) ∈ lw_all := lw_g (lw_at lw_m6 36 rfl) rfl
theorem q1323 : (Jvm.Cond.code ({ cls := "DareFordModel", name := "comes", desc := "(IIII)I" } : Jvm.MethodName) prog_10_method_76_code (6 : Nat) (Option.some Jvm.ClassFile.FieldType.int)) ∈ lw_all := lw_g (lw_at lw_m6 37 rfl) rfl
theorem q1324 : (Jvm.Cond.methodLink "DareFordModel" (242 : Nat) ({ cls := "DareFordModel", name := "daringRaised", desc := "(II)I" } : Jvm.MethodName)) ∈ lw_all := lw_g (lw_at lw_m6 38 rfl) rfl
theorem q1325 : (Jvm.Cond.privateMethod ({ cls := "DareFordModel", name := "daringRaised", desc := "(II)I" } : Jvm.MethodName)) ∈ lw_tbl := lw_at lw_m6 39 rfl
theorem q1326 : (Jvm.Cond.instanceMethod ({ cls := "DareFordModel", name := "daringRaised", desc := "(II)I" } : Jvm.MethodName)) ∈ lw_all := lw_g (lw_at lw_m6 40 rfl) rfl
theorem q1327 : (Jvm.Cond.code ({ cls := "DareFordModel", name := "daringRaised", desc := "(II)I" } : Jvm.MethodName) prog_10_method_75_code (3 : Nat) (Option.some Jvm.ClassFile.FieldType.int)) ∈ lw_all := lw_g (lw_at lw_m6 41 rfl) rfl
theorem q1329 : (Jvm.Cond.instanceMethod ({ cls := "DareFordModel", name := "odds", desc := "(II)I" } : Jvm.MethodName)) ∈ lw_all := lw_g (lw_at lw_m6 43 rfl) rfl
theorem q1330 : (Jvm.Cond.selects "DareFordModel" ({ cls := "DareFordModel", name := "odds", desc := "(II)I" } : Jvm.MethodName) ({ cls := "DareFordModel", name := "odds", desc := "(II)I" } : Jvm.MethodName)) ∈ lw_all := lw_g (lw_at lw_m6 44 rfl) rfl
theorem q1331 : (Jvm.Cond.code ({ cls := "DareFordModel", name := "odds", desc := "(II)I" } : Jvm.MethodName) prog_10_method_80_code (10 : Nat) (Option.some Jvm.ClassFile.FieldType.int)) ∈ lw_all := lw_g (lw_at lw_m6 45 rfl) rfl
theorem q1332 : (Jvm.Cond.constantLong "DareFordModel" (248 : Nat) (12 : Int64)) ∈ lw_all := lw_g (lw_at lw_m6 46 rfl) rfl
theorem q1333 : (Jvm.Cond.methodLink "DareFordModel" (250 : Nat) ({ cls := "DareFordModel", name := "chancesOf", desc := "(II)J" } : Jvm.MethodName)) ∈ lw_all := lw_g (lw_at lw_m6 47 rfl) rfl
theorem q1334 : (Jvm.Cond.privateMethod ({ cls := "DareFordModel", name := "chancesOf", desc := "(II)J" } : Jvm.MethodName)) ∈ lw_tbl := lw_at lw_m6 48 rfl
theorem q1335 : (Jvm.Cond.instanceMethod ({ cls := "DareFordModel", name := "chancesOf", desc := "(II)J" } : Jvm.MethodName)) ∈ lw_all := lw_g (lw_at lw_m6 49 rfl) rfl
theorem q1336 : (Jvm.Cond.code ({ cls := "DareFordModel", name := "chancesOf", desc := "(II)J" } : Jvm.MethodName) prog_10_method_79_code (6 : Nat) (Option.some Jvm.ClassFile.FieldType.long)) ∈ lw_all := lw_g (lw_at lw_m6 50 rfl) rfl
theorem q1337 : (Jvm.Cond.methodLink "DareFordModel" (254 : Nat) ({ cls := "DareFordModel", name := "tellParts", desc := "(JJ)V" } : Jvm.MethodName)) ∈ lw_all := lw_g (lw_at lw_m6 51 rfl) rfl
theorem q1338 : (Jvm.Cond.privateMethod ({ cls := "DareFordModel", name := "tellParts", desc := "(JJ)V" } : Jvm.MethodName)) ∈ lw_tbl := lw_at lw_m6 52 rfl
theorem q1339 : (Jvm.Cond.instanceMethod ({ cls := "DareFordModel", name := "tellParts", desc := "(JJ)V" } : Jvm.MethodName)) ∈ lw_all := lw_g (lw_at lw_m6 53 rfl) rfl
theorem q1340 : (Jvm.Cond.code ({ cls := "DareFordModel", name := "tellParts", desc := "(JJ)V" } : Jvm.MethodName) prog_10_method_78_code (11 : Nat) (Option.none : Option Jvm.ClassFile.FieldType)) ∈ lw_all := lw_g (lw_at lw_m6 54 rfl) rfl
theorem q1342 : (Jvm.Cond.instanceMethod ({ cls := "DareFordModel", name := "mid", desc := "(II)I" } : Jvm.MethodName)) ∈ lw_all := lw_g (lw_at lw_m6 56 rfl) rfl
theorem q1343 : (Jvm.Cond.selects "DareFordModel" ({ cls := "DareFordModel", name := "mid", desc := "(II)I" } : Jvm.MethodName) ({ cls := "DareFordModel", name := "mid", desc := "(II)I" } : Jvm.MethodName)) ∈ lw_all := lw_g (lw_at lw_m6 57 rfl) rfl
theorem q1344 : (Jvm.Cond.code ({ cls := "DareFordModel", name := "mid", desc := "(II)I" } : Jvm.MethodName) prog_10_method_82_code (5 : Nat) (Option.some Jvm.ClassFile.FieldType.int)) ∈ lw_all := lw_g (lw_at lw_m6 58 rfl) rfl
theorem q1345 : (Jvm.Cond.methodLink "DareFordModel" (261 : Nat) ({ cls := "DareFordModel", name := "farAll", desc := "(II)J" } : Jvm.MethodName)) ∈ lw_all := lw_g (lw_at lw_m6 59 rfl) rfl
theorem q1346 : (Jvm.Cond.privateMethod ({ cls := "DareFordModel", name := "farAll", desc := "(II)J" } : Jvm.MethodName)) ∈ lw_tbl := lw_at lw_m6 60 rfl
theorem q1347 : (Jvm.Cond.instanceMethod ({ cls := "DareFordModel", name := "farAll", desc := "(II)J" } : Jvm.MethodName)) ∈ lw_all := lw_g (lw_at lw_m6 61 rfl) rfl
theorem q1348 : (Jvm.Cond.code ({ cls := "DareFordModel", name := "farAll", desc := "(II)J" } : Jvm.MethodName) prog_10_method_81_code (9 : Nat) (Option.some Jvm.ClassFile.FieldType.long)) ∈ lw_all := lw_g (lw_at lw_m6 62 rfl) rfl
theorem q1350 : (Jvm.Cond.instanceMethod ({ cls := "DareFordModel", name := "fair", desc := "(I)I" } : Jvm.MethodName)) ∈ lw_all := lw_g (lw_at lw_m6 64 rfl) rfl
theorem q1351 : (Jvm.Cond.selects "DareFordModel" ({ cls := "DareFordModel", name := "fair", desc := "(I)I" } : Jvm.MethodName) ({ cls := "DareFordModel", name := "fair", desc := "(I)I" } : Jvm.MethodName)) ∈ lw_all := lw_g (lw_at lw_m6 65 rfl) rfl
theorem q1352 : (Jvm.Cond.code ({ cls := "DareFordModel", name := "fair", desc := "(I)I" } : Jvm.MethodName) prog_10_method_83_code (9 : Nat) (Option.some Jvm.ClassFile.FieldType.int)) ∈ lw_all := lw_g (lw_at lw_m6 66 rfl) rfl
theorem q1353 : (Jvm.Cond.constantLong "DareFordModel" (264 : Nat) (-1 : Int64)) ∈ lw_all := lw_g (lw_at lw_m6 67 rfl) rfl
theorem q1355 : (Jvm.Cond.instanceMethod ({ cls := "DareFordModel", name := "lots", desc := "(II)I" } : Jvm.MethodName)) ∈ lw_all := lw_g (lw_at lw_m6 69 rfl) rfl
theorem q1356 : (Jvm.Cond.selects "DareFordModel" ({ cls := "DareFordModel", name := "lots", desc := "(II)I" } : Jvm.MethodName) ({ cls := "DareFordModel", name := "lots", desc := "(II)I" } : Jvm.MethodName)) ∈ lw_all := lw_g (lw_at lw_m6 70 rfl) rfl
theorem q1357 : (Jvm.Cond.code ({ cls := "DareFordModel", name := "lots", desc := "(II)I" } : Jvm.MethodName) prog_10_method_85_code (6 : Nat) (Option.some Jvm.ClassFile.FieldType.int)) ∈ lw_all := lw_g (lw_at lw_m6 71 rfl) rfl
theorem q1358 : (Jvm.Cond.constantLong "DareFordModel" (270 : Nat) (2147483646 : Int64)) ∈ lw_all := lw_g (lw_at lw_m6 72 rfl) rfl
theorem q1359 : (Jvm.Cond.constantLong "DareFordModel" (272 : Nat) (48271 : Int64)) ∈ lw_all := lw_g (lw_at lw_m6 73 rfl) rfl
theorem q1360 : (Jvm.Cond.constantLong "DareFordModel" (274 : Nat) (2147483647 : Int64)) ∈ lw_all := lw_g (lw_at lw_m6 74 rfl) rfl
theorem q1361 : (Jvm.Cond.methodLink "DareFordModel" (276 : Nat) ({ cls := "DareFordModel", name := "byLot", desc := "(J)V" } : Jvm.MethodName)) ∈ lw_all := lw_g (lw_at lw_m6 75 rfl) rfl
theorem q1362 : (Jvm.Cond.privateMethod ({ cls := "DareFordModel", name := "byLot", desc := "(J)V" } : Jvm.MethodName)) ∈ lw_tbl := lw_at lw_m6 76 rfl
theorem q1363 : (Jvm.Cond.instanceMethod ({ cls := "DareFordModel", name := "byLot", desc := "(J)V" } : Jvm.MethodName)) ∈ lw_all := lw_g (lw_at lw_m6 77 rfl) rfl
theorem q1364 : (Jvm.Cond.code ({ cls := "DareFordModel", name := "byLot", desc := "(J)V" } : Jvm.MethodName) prog_10_method_84_code (7 : Nat) (Option.none : Option Jvm.ClassFile.FieldType)) ∈ lw_all := lw_g (lw_at lw_m6 78 rfl) rfl
theorem q1365 : (Jvm.Cond.constantLong "DareFordModel" (266 : Nat) (8 : Int64)) ∈ lw_all := lw_g (lw_at lw_m6 79 rfl) rfl
theorem q1366 : (Jvm.Cond.constantLong "DareFordModel" (268 : Nat) (64 : Int64)) ∈ lw_all := lw_g (lw_at lw_m6 80 rfl) rfl
theorem q1368 : (Jvm.Cond.instanceMethod ({ cls := "DareFordModel", name := "asked", desc := "()I" } : Jvm.MethodName)) ∈ lw_all := lw_g (lw_at lw_m6 82 rfl) rfl
theorem q1369 : (Jvm.Cond.selects "DareFordModel" ({ cls := "DareFordModel", name := "asked", desc := "()I" } : Jvm.MethodName) ({ cls := "DareFordModel", name := "asked", desc := "()I" } : Jvm.MethodName)) ∈ lw_all := lw_g (lw_at lw_m6 83 rfl) rfl
theorem q1370 : (Jvm.Cond.code ({ cls := "DareFordModel", name := "asked", desc := "()I" } : Jvm.MethodName) prog_10_method_86_code (1 : Nat) (Option.some Jvm.ClassFile.FieldType.int)) ∈ lw_all := lw_g (lw_at lw_m6 84 rfl) rfl
theorem q1372 : (Jvm.Cond.instanceMethod ({ cls := "DareFordModel", name := "upper", desc := "()J" } : Jvm.MethodName)) ∈ lw_all := lw_g (lw_at lw_m6 86 rfl) rfl
theorem q1373 : (Jvm.Cond.selects "DareFordModel" ({ cls := "DareFordModel", name := "upper", desc := "()J" } : Jvm.MethodName) ({ cls := "DareFordModel", name := "upper", desc := "()J" } : Jvm.MethodName)) ∈ lw_all := lw_g (lw_at lw_m6 87 rfl) rfl
theorem q1374 : (Jvm.Cond.code ({ cls := "DareFordModel", name := "upper", desc := "()J" } : Jvm.MethodName) prog_10_method_87_code (1 : Nat) (Option.some Jvm.ClassFile.FieldType.long)) ∈ lw_all := lw_g (lw_at lw_m6 88 rfl) rfl
theorem q1376 : (Jvm.Cond.instanceMethod ({ cls := "DareFordModel", name := "lower", desc := "()J" } : Jvm.MethodName)) ∈ lw_all := lw_g (lw_at lw_m6 90 rfl) rfl
theorem q1377 : (Jvm.Cond.selects "DareFordModel" ({ cls := "DareFordModel", name := "lower", desc := "()J" } : Jvm.MethodName) ({ cls := "DareFordModel", name := "lower", desc := "()J" } : Jvm.MethodName)) ∈ lw_all := lw_g (lw_at lw_m6 91 rfl) rfl
theorem q1378 : (Jvm.Cond.code ({ cls := "DareFordModel", name := "lower", desc := "()J" } : Jvm.MethodName) prog_10_method_88_code (1 : Nat) (Option.some Jvm.ClassFile.FieldType.long)) ∈ lw_all := lw_g (lw_at lw_m6 92 rfl) rfl
theorem q1380 : (Jvm.Cond.instanceMethod ({ cls := "DareFordModel", name := "count", desc := "(I)I" } : Jvm.MethodName)) ∈ lw_all := lw_g (lw_at lw_m6 94 rfl) rfl
theorem q1381 : (Jvm.Cond.selects "DareFordModel" ({ cls := "DareFordModel", name := "count", desc := "(I)I" } : Jvm.MethodName) ({ cls := "DareFordModel", name := "count", desc := "(I)I" } : Jvm.MethodName)) ∈ lw_all := lw_g (lw_at lw_m6 95 rfl) rfl
theorem q1382 : (Jvm.Cond.code ({ cls := "DareFordModel", name := "count", desc := "(I)I" } : Jvm.MethodName) prog_10_method_93_code (2 : Nat) (Option.some Jvm.ClassFile.FieldType.int)) ∈ lw_all := lw_g (lw_at lw_m6 96 rfl) rfl
theorem q1383 : (Jvm.Cond.constantLong "DareFordModel" (289 : Nat) (11 : Int64)) ∈ lw_all := lw_g (lw_at lw_m6 97 rfl) rfl
theorem q1384 : (Jvm.Cond.methodLink "DareFordModel" (291 : Nat) ({ cls := "DareFordModel", name := "countOf", desc := "(I)I" } : Jvm.MethodName)) ∈ lw_all := lw_g (lw_at lw_m6 98 rfl) rfl
theorem q1385 : (Jvm.Cond.privateMethod ({ cls := "DareFordModel", name := "countOf", desc := "(I)I" } : Jvm.MethodName)) ∈ lw_tbl := lw_at lw_m6 99 rfl
theorem q1386 : (Jvm.Cond.instanceMethod ({ cls := "DareFordModel", name := "countOf", desc := "(I)I" } : Jvm.MethodName)) ∈ lw_all := lw_g (lw_at lw_m6 100 rfl) rfl
theorem q1387 : (Jvm.Cond.code ({ cls := "DareFordModel", name := "countOf", desc := "(I)I" } : Jvm.MethodName) prog_10_method_92_code (3 : Nat) (Option.some Jvm.ClassFile.FieldType.int)) ∈ lw_all := lw_g (lw_at lw_m6 101 rfl) rfl
theorem q1388 : (Jvm.Cond.methodLink "DareFordModel" (280 : Nat) ({ cls := "DareFordModel", name := "crossedByAll", desc := "()I" } : Jvm.MethodName)) ∈ lw_all := lw_g (lw_at lw_m6 102 rfl) rfl
theorem q1389 : (Jvm.Cond.privateMethod ({ cls := "DareFordModel", name := "crossedByAll", desc := "()I" } : Jvm.MethodName)) ∈ lw_tbl := lw_at lw_m6 103 rfl
theorem q1390 : (Jvm.Cond.instanceMethod ({ cls := "DareFordModel", name := "crossedByAll", desc := "()I" } : Jvm.MethodName)) ∈ lw_all := lw_g (lw_at lw_m6 104 rfl) rfl
theorem q1391 : (Jvm.Cond.code ({ cls := "DareFordModel", name := "crossedByAll", desc := "()I" } : Jvm.MethodName) prog_10_method_90_code (3 : Nat) (Option.some Jvm.ClassFile.FieldType.int)) ∈ lw_all := lw_g (lw_at lw_m6 105 rfl) rfl
theorem q1392 : (Jvm.Cond.methodLink "DareFordModel" (283 : Nat) ({ cls := "DareFordModel", name := "those", desc := "(I)I" } : Jvm.MethodName)) ∈ lw_all := lw_g (lw_at lw_m6 106 rfl) rfl
theorem q1393 : (Jvm.Cond.privateMethod ({ cls := "DareFordModel", name := "those", desc := "(I)I" } : Jvm.MethodName)) ∈ lw_tbl := lw_at lw_m6 107 rfl
theorem q1394 : (Jvm.Cond.instanceMethod ({ cls := "DareFordModel", name := "those", desc := "(I)I" } : Jvm.MethodName)) ∈ lw_all := lw_g (lw_at lw_m6 108 rfl) rfl
theorem q1395 : (Jvm.Cond.code ({ cls := "DareFordModel", name := "those", desc := "(I)I" } : Jvm.MethodName) prog_10_method_89_code (4 : Nat) (Option.some Jvm.ClassFile.FieldType.int)) ∈ lw_all := lw_g (lw_at lw_m6 109 rfl) rfl
theorem q1396 : (Jvm.Cond.methodLink "DareFordModel" (286 : Nat) ({ cls := "DareFordModel", name := "thereOf", desc := "(I)I" } : Jvm.MethodName)) ∈ lw_all := lw_g (lw_at lw_m6 110 rfl) rfl
theorem q1397 : (Jvm.Cond.privateMethod ({ cls := "DareFordModel", name := "thereOf", desc := "(I)I" } : Jvm.MethodName)) ∈ lw_tbl := lw_at lw_m6 111 rfl
theorem q1398 : (Jvm.Cond.instanceMethod ({ cls := "DareFordModel", name := "thereOf", desc := "(I)I" } : Jvm.MethodName)) ∈ lw_all := lw_g (lw_at lw_m6 112 rfl) rfl
theorem q1399 : (Jvm.Cond.code ({ cls := "DareFordModel", name := "thereOf", desc := "(I)I" } : Jvm.MethodName) prog_10_method_91_code (4 : Nat) (Option.some Jvm.ClassFile.FieldType.int)) ∈ lw_all := lw_g (lw_at lw_m6 113 rfl) rfl
theorem q1401 : (Jvm.Cond.instanceMethod ({ cls := "DareFordModel", name := "finding", desc := "()I" } : Jvm.MethodName)) ∈ lw_all := lw_g (lw_at lw_m6 115 rfl) rfl
theorem q1402 : (Jvm.Cond.selects "DareFordModel" ({ cls := "DareFordModel", name := "finding", desc := "()I" } : Jvm.MethodName) ({ cls := "DareFordModel", name := "finding", desc := "()I" } : Jvm.MethodName)) ∈ lw_all := lw_g (lw_at lw_m6 116 rfl) rfl
theorem q1403 : (Jvm.Cond.code ({ cls := "DareFordModel", name := "finding", desc := "()I" } : Jvm.MethodName) prog_10_method_94_code (1 : Nat) (Option.some Jvm.ClassFile.FieldType.int)) ∈ lw_all := lw_g (lw_at lw_m6 117 rfl) rfl
theorem q1405 : (Jvm.Cond.instanceMethod ({ cls := "DareFordModel", name := "findings", desc := "(I)I" } : Jvm.MethodName)) ∈ lw_all := lw_g (lw_at lw_m6 119 rfl) rfl
theorem q1406 : (Jvm.Cond.selects "DareFordModel" ({ cls := "DareFordModel", name := "findings", desc := "(I)I" } : Jvm.MethodName) ({ cls := "DareFordModel", name := "findings", desc := "(I)I" } : Jvm.MethodName)) ∈ lw_all := lw_g (lw_at lw_m6 120 rfl) rfl
theorem q1407 : (Jvm.Cond.code ({ cls := "DareFordModel", name := "findings", desc := "(I)I" } : Jvm.MethodName) prog_10_method_95_code (2 : Nat) (Option.some Jvm.ClassFile.FieldType.int)) ∈ lw_all := lw_g (lw_at lw_m6 121 rfl) rfl
theorem q1409 : (Jvm.Cond.instanceMethod ({ cls := "DareFordModel", name := "digest", desc := "()J" } : Jvm.MethodName)) ∈ lw_all := lw_g (lw_at lw_m6 123 rfl) rfl
theorem q1410 : (Jvm.Cond.selects "DareFordModel" ({ cls := "DareFordModel", name := "digest", desc := "()J" } : Jvm.MethodName) ({ cls := "DareFordModel", name := "digest", desc := "()J" } : Jvm.MethodName)) ∈ lw_all := lw_g (lw_at lw_m6 124 rfl) rfl
theorem q1411 : (Jvm.Cond.code ({ cls := "DareFordModel", name := "digest", desc := "()J" } : Jvm.MethodName) prog_10_method_96_code (5 : Nat) (Option.some Jvm.ClassFile.FieldType.long)) ∈ lw_all := lw_g (lw_at lw_m6 125 rfl) rfl
theorem q1412 : (Jvm.Cond.constantLong "DareFordModel" (294 : Nat) (17 : Int64)) ∈ lw_all := lw_g (lw_at lw_m6 126 rfl) rfl
theorem q1413 : (Jvm.Cond.constantLong "DareFordModel" (296 : Nat) (31 : Int64)) ∈ lw_all := lw_g (lw_at lw_m6 127 rfl) rfl
theorem in_X1 : ∀ w ∈ wsX10, w ∈ lw_all := lw_in wsX10 [972, 974, 976, 978, 980, 982, 984, 986, 988, 990, 992, 994, 996, 998, 1000, 1002, 1004, 1006, 1008, 1010, 1012, 1014, 1016] (by decide +kernel) (by decide +kernel)
