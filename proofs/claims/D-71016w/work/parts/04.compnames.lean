/-! DareFord -/
set_option maxRecDepth 100000
def RX0 : String := "DareFord"
def TX0 : u_T := fun k => match k with
  | 0 => ("DareFord", "latest", "I", false)
  | 1 => ("DareFord", "came", "[I", true)
  | 2 => ("DareFord", "asked", "I", false)
  | 3 => ("DareFord", "upper", "J", false)
  | 4 => ("DareFord", "lower", "J", false)
  | 5 => ("DareFord", "rows", "[[I", true)
  | 6 => ("DareFord", "texts", "[[B", true)
  | 7 => ("DareFord", "personMany", "I", false)
  | 8 => ("DareFord", "people", "[LDareFord$Person;", true)
  | 9 => ("DareFord", "at", "[I", true)
  | 10 => ("DareFord", "readAt", "I", false)
  | 11 => ("DareFord", "readMany", "I", false)
  | 12 => ("DareFord", "readFord", "I", false)
  | 13 => ("DareFord", "readOnes", "[I", true)
  | 14 => ("DareFord", "deedMany", "I", false)
  | 15 => ("DareFord", "log", "[I", true)
  | 16 => ("DareFord", "kept", "[[I", true)
  | 17 => ("DareFord", "changes", "[I", true)
  | 18 => ("DareFord", "bestChanges", "[I", true)
  | 19 => ("DareFord", "counts", "[I", true)
  | 20 => ("DareFord", "setMany", "I", false)
  | 21 => ("DareFord", "setFirst", "I", false)
  | 22 => ("DareFord", "setAll", "I", false)
  | 23 => ("DareFord", "setAny", "I", false)
  | _ => ("DareFord", "h", "J", false)
def tyX0 : Nat → FieldType := fun k => match k with
  | 0 => .int
  | 1 => .array .int
  | 2 => .int
  | 3 => .long
  | 4 => .long
  | 5 => .array (.array .int)
  | 6 => .array (.array .byte)
  | 7 => .int
  | 8 => .array (.object "DareFord$Person")
  | 9 => .array .int
  | 10 => .int
  | 11 => .int
  | 12 => .int
  | 13 => .array .int
  | 14 => .int
  | 15 => .array .int
  | 16 => .array (.array .int)
  | 17 => .array .int
  | 18 => .array .int
  | 19 => .array .int
  | 20 => .int
  | 21 => .int
  | 22 => .int
  | 23 => .int
  | _ => .long
abbrev wsX00 : List Cond := u_ws RX0 TX0 25
set_option maxRecDepth 100000 in
theorem nmX0 : ∀ a, a < 25 → ∀ b, b < 25 → a ≠ b → (TX0 a).2.1 ≠ (TX0 b).2.1 := by decide +kernel
set_option maxRecDepth 100000 in
theorem tyX0_ok : ∀ k, k < 25 → parseFieldDescriptor (TX0 k).2.2.1 = some (tyX0 k) := by decide +kernel
abbrev cX0_asked : ByteArray := prog_1_method_5_code
def yX0_asked : MethodName := ⟨RX0, "asked", "()I"⟩
theorem dX0_asked_0 : decode cX0_asked 0 = .ok (.aload_n 0, 1) := by decide +kernel
theorem dX0_asked_1 : decode cX0_asked 1 = .ok (.getfield 11, 3) := by decide +kernel
theorem dX0_asked_4 : decode cX0_asked 4 = .ok (.ireturn, 1) := by decide +kernel
abbrev cX0_init : ByteArray := prog_1_method_6_code
def yX0_init : MethodName := ⟨RX0, "<init>", "()V"⟩
def dkwX0_init_4 : List UInt8 := [16, 7, 188, 10, 181, 0, 59, 177]
abbrev dktX0_init_4 : List UInt8 := dkwX0_init_4 ++ []
def dkwX0_init_3 : List UInt8 := [189, 0, 24, 181, 0, 50, 42, 16, 6, 188, 10, 181, 0, 53, 42, 16, 6, 188, 10, 181, 0, 56, 42]
abbrev dktX0_init_3 : List UInt8 := dkwX0_init_3 ++ dktX0_init_4
def dkwX0_init_2 : List UInt8 := [188, 10, 181, 0, 41, 42, 16, 18, 188, 10, 181, 0, 44, 42, 17, 3, 32, 188, 10, 181, 0, 47, 42, 6]
abbrev dktX0_init_2 : List UInt8 := dkwX0_init_2 ++ dktX0_init_3
def dkwX0_init_1 : List UInt8 := [181, 0, 25, 42, 7, 189, 0, 29, 181, 0, 31, 42, 16, 6, 189, 0, 35, 181, 0, 37, 42, 17, 0, 160]
abbrev dktX0_init_1 : List UInt8 := dkwX0_init_1 ++ dktX0_init_2
def dkwX0_init_0 : List UInt8 := [42, 183, 0, 14, 42, 16, 6, 188, 10, 181, 0, 7, 42, 10, 181, 0, 20, 42, 16, 6, 189, 0, 24]
abbrev dktX0_init_0 : List UInt8 := dkwX0_init_0 ++ dktX0_init_1
theorem dksX0_init_0 : cX0_init.data.toList.drop 0 = dktX0_init_0 := by decide +kernel
theorem dksX0_init_1 : cX0_init.data.toList.drop 23 = dktX0_init_1 := dk_seg dksX0_init_0 23 rfl rfl
theorem dksX0_init_2 : cX0_init.data.toList.drop 47 = dktX0_init_2 := dk_seg dksX0_init_1 24 rfl rfl
theorem dksX0_init_3 : cX0_init.data.toList.drop 71 = dktX0_init_3 := dk_seg dksX0_init_2 24 rfl rfl
theorem dksX0_init_4 : cX0_init.data.toList.drop 94 = dktX0_init_4 := dk_seg dksX0_init_3 23 rfl rfl
theorem dX0_init_0 : decode cX0_init 0 = .ok (.aload_n 0, 1) := dk_42 (dk_at dksX0_init_0 0 rfl rfl)
theorem dX0_init_1 : decode cX0_init 1 = .ok (.invokespecial 14, 3) := dk_183 0 14 (dk_at dksX0_init_0 1 rfl rfl)
theorem dX0_init_4 : decode cX0_init 4 = .ok (.aload_n 0, 1) := dk_42 (dk_at dksX0_init_0 4 rfl rfl)
theorem dX0_init_5 : decode cX0_init 5 = .ok (.bipush 6, 2) := dk_16 6 (dk_at dksX0_init_0 5 rfl rfl)
theorem dX0_init_7 : decode cX0_init 7 = .ok (.newarray .int, 2) := dk_188_10 (dk_at dksX0_init_0 7 rfl rfl)
theorem dX0_init_9 : decode cX0_init 9 = .ok (.putfield 7, 3) := dk_181 0 7 (dk_at dksX0_init_0 9 rfl rfl)
theorem dX0_init_12 : decode cX0_init 12 = .ok (.aload_n 0, 1) := dk_42 (dk_at dksX0_init_0 12 rfl rfl)
theorem dX0_init_13 : decode cX0_init 13 = .ok (.lconst 1, 1) := dk_10 (dk_at dksX0_init_0 13 rfl rfl)
theorem dX0_init_14 : decode cX0_init 14 = .ok (.putfield 20, 3) := dk_181 0 20 (dk_at dksX0_init_0 14 rfl rfl)
theorem dX0_init_17 : decode cX0_init 17 = .ok (.aload_n 0, 1) := dk_42 (dk_at dksX0_init_0 17 rfl rfl)
theorem dX0_init_18 : decode cX0_init 18 = .ok (.bipush 6, 2) := dk_16 6 (dk_at dksX0_init_0 18 rfl rfl)
theorem dX0_init_20 : decode cX0_init 20 = .ok (.anewarray 24, 3) := dk_189 0 24 (dk_at dksX0_init_0 20 rfl rfl)
theorem dX0_init_23 : decode cX0_init 23 = .ok (.putfield 25, 3) := dk_181 0 25 (dk_at dksX0_init_1 0 rfl rfl)
theorem dX0_init_26 : decode cX0_init 26 = .ok (.aload_n 0, 1) := dk_42 (dk_at dksX0_init_1 3 rfl rfl)
theorem dX0_init_27 : decode cX0_init 27 = .ok (.iconst 4, 1) := dk_7 (dk_at dksX0_init_1 4 rfl rfl)
theorem dX0_init_28 : decode cX0_init 28 = .ok (.anewarray 29, 3) := dk_189 0 29 (dk_at dksX0_init_1 5 rfl rfl)
theorem dX0_init_31 : decode cX0_init 31 = .ok (.putfield 31, 3) := dk_181 0 31 (dk_at dksX0_init_1 8 rfl rfl)
theorem dX0_init_34 : decode cX0_init 34 = .ok (.aload_n 0, 1) := dk_42 (dk_at dksX0_init_1 11 rfl rfl)
theorem dX0_init_35 : decode cX0_init 35 = .ok (.bipush 6, 2) := dk_16 6 (dk_at dksX0_init_1 12 rfl rfl)
theorem dX0_init_37 : decode cX0_init 37 = .ok (.anewarray 35, 3) := dk_189 0 35 (dk_at dksX0_init_1 14 rfl rfl)
theorem dX0_init_40 : decode cX0_init 40 = .ok (.putfield 37, 3) := dk_181 0 37 (dk_at dksX0_init_1 17 rfl rfl)
theorem dX0_init_43 : decode cX0_init 43 = .ok (.aload_n 0, 1) := dk_42 (dk_at dksX0_init_1 20 rfl rfl)
theorem dX0_init_44 : decode cX0_init 44 = .ok (.sipush 160, 3) := dk_17 0 160 (dk_at dksX0_init_1 21 rfl rfl)
theorem dX0_init_47 : decode cX0_init 47 = .ok (.newarray .int, 2) := dk_188_10 (dk_at dksX0_init_2 0 rfl rfl)
theorem dX0_init_49 : decode cX0_init 49 = .ok (.putfield 41, 3) := dk_181 0 41 (dk_at dksX0_init_2 2 rfl rfl)
theorem dX0_init_52 : decode cX0_init 52 = .ok (.aload_n 0, 1) := dk_42 (dk_at dksX0_init_2 5 rfl rfl)
theorem dX0_init_53 : decode cX0_init 53 = .ok (.bipush 18, 2) := dk_16 18 (dk_at dksX0_init_2 6 rfl rfl)
theorem dX0_init_55 : decode cX0_init 55 = .ok (.newarray .int, 2) := dk_188_10 (dk_at dksX0_init_2 8 rfl rfl)
theorem dX0_init_57 : decode cX0_init 57 = .ok (.putfield 44, 3) := dk_181 0 44 (dk_at dksX0_init_2 10 rfl rfl)
theorem dX0_init_60 : decode cX0_init 60 = .ok (.aload_n 0, 1) := dk_42 (dk_at dksX0_init_2 13 rfl rfl)
theorem dX0_init_61 : decode cX0_init 61 = .ok (.sipush 800, 3) := dk_17 3 32 (dk_at dksX0_init_2 14 rfl rfl)
theorem dX0_init_64 : decode cX0_init 64 = .ok (.newarray .int, 2) := dk_188_10 (dk_at dksX0_init_2 17 rfl rfl)
theorem dX0_init_66 : decode cX0_init 66 = .ok (.putfield 47, 3) := dk_181 0 47 (dk_at dksX0_init_2 19 rfl rfl)
theorem dX0_init_69 : decode cX0_init 69 = .ok (.aload_n 0, 1) := dk_42 (dk_at dksX0_init_2 22 rfl rfl)
theorem dX0_init_70 : decode cX0_init 70 = .ok (.iconst 3, 1) := dk_6 (dk_at dksX0_init_2 23 rfl rfl)
theorem dX0_init_71 : decode cX0_init 71 = .ok (.anewarray 24, 3) := dk_189 0 24 (dk_at dksX0_init_3 0 rfl rfl)
theorem dX0_init_74 : decode cX0_init 74 = .ok (.putfield 50, 3) := dk_181 0 50 (dk_at dksX0_init_3 3 rfl rfl)
theorem dX0_init_77 : decode cX0_init 77 = .ok (.aload_n 0, 1) := dk_42 (dk_at dksX0_init_3 6 rfl rfl)
theorem dX0_init_78 : decode cX0_init 78 = .ok (.bipush 6, 2) := dk_16 6 (dk_at dksX0_init_3 7 rfl rfl)
theorem dX0_init_80 : decode cX0_init 80 = .ok (.newarray .int, 2) := dk_188_10 (dk_at dksX0_init_3 9 rfl rfl)
theorem dX0_init_82 : decode cX0_init 82 = .ok (.putfield 53, 3) := dk_181 0 53 (dk_at dksX0_init_3 11 rfl rfl)
theorem dX0_init_85 : decode cX0_init 85 = .ok (.aload_n 0, 1) := dk_42 (dk_at dksX0_init_3 14 rfl rfl)
theorem dX0_init_86 : decode cX0_init 86 = .ok (.bipush 6, 2) := dk_16 6 (dk_at dksX0_init_3 15 rfl rfl)
theorem dX0_init_88 : decode cX0_init 88 = .ok (.newarray .int, 2) := dk_188_10 (dk_at dksX0_init_3 17 rfl rfl)
theorem dX0_init_90 : decode cX0_init 90 = .ok (.putfield 56, 3) := dk_181 0 56 (dk_at dksX0_init_3 19 rfl rfl)
theorem dX0_init_93 : decode cX0_init 93 = .ok (.aload_n 0, 1) := dk_42 (dk_at dksX0_init_3 22 rfl rfl)
theorem dX0_init_94 : decode cX0_init 94 = .ok (.bipush 7, 2) := dk_16 7 (dk_at dksX0_init_4 0 rfl rfl)
theorem dX0_init_96 : decode cX0_init 96 = .ok (.newarray .int, 2) := dk_188_10 (dk_at dksX0_init_4 2 rfl rfl)
theorem dX0_init_98 : decode cX0_init 98 = .ok (.putfield 59, 3) := dk_181 0 59 (dk_at dksX0_init_4 4 rfl rfl)
theorem dX0_init_101 : decode cX0_init 101 = .ok (.return_, 1) := dk_177 (dk_at dksX0_init_4 7 rfl rfl)
abbrev cX0_upper : ByteArray := prog_1_method_8_code
def yX0_upper : MethodName := ⟨RX0, "upper", "()J"⟩
theorem dX0_upper_0 : decode cX0_upper 0 = .ok (.aload_n 0, 1) := by decide +kernel
theorem dX0_upper_1 : decode cX0_upper 1 = .ok (.getfield 62, 3) := by decide +kernel
theorem dX0_upper_4 : decode cX0_upper 4 = .ok (.lreturn, 1) := by decide +kernel
abbrev cX0_lower : ByteArray := prog_1_method_9_code
def yX0_lower : MethodName := ⟨RX0, "lower", "()J"⟩
theorem dX0_lower_0 : decode cX0_lower 0 = .ok (.aload_n 0, 1) := by decide +kernel
theorem dX0_lower_1 : decode cX0_lower 1 = .ok (.getfield 20, 3) := by decide +kernel
theorem dX0_lower_4 : decode cX0_lower 4 = .ok (.lreturn, 1) := by decide +kernel
abbrev cX0_row : ByteArray := prog_1_method_11_code
def yX0_row : MethodName := ⟨RX0, "row", "(II)I"⟩
def dkwX0_row_1 : List UInt8 := [28, 172, 78, 42, 8, 182, 0, 75, 172]
abbrev dktX0_row_1 : List UInt8 := dkwX0_row_1 ++ []
def dkwX0_row_0 : List UInt8 := [27, 184, 0, 69, 153, 0, 9, 28, 16, 40, 164, 0, 5, 2, 172, 42, 180, 0, 25, 27, 28, 188, 10, 83]
abbrev dktX0_row_0 : List UInt8 := dkwX0_row_0 ++ dktX0_row_1
theorem dksX0_row_0 : cX0_row.data.toList.drop 0 = dktX0_row_0 := by decide +kernel
theorem dksX0_row_1 : cX0_row.data.toList.drop 24 = dktX0_row_1 := dk_seg dksX0_row_0 24 rfl rfl
theorem dX0_row_0 : decode cX0_row 0 = .ok (.iload_n 1, 1) := dk_27 (dk_at dksX0_row_0 0 rfl rfl)
theorem dX0_row_1 : decode cX0_row 1 = .ok (.invokestatic 69, 3) := dk_184 0 69 (dk_at dksX0_row_0 1 rfl rfl)
theorem dX0_row_4 : decode cX0_row 4 = .ok (.ifCond .eq 9, 3) := dk_153 0 9 (dk_at dksX0_row_0 4 rfl rfl)
theorem dX0_row_7 : decode cX0_row 7 = .ok (.iload_n 2, 1) := dk_28 (dk_at dksX0_row_0 7 rfl rfl)
theorem dX0_row_8 : decode cX0_row 8 = .ok (.bipush 40, 2) := dk_16 40 (dk_at dksX0_row_0 8 rfl rfl)
theorem dX0_row_10 : decode cX0_row 10 = .ok (.if_icmp .le 5, 3) := dk_164 0 5 (dk_at dksX0_row_0 10 rfl rfl)
theorem dX0_row_13 : decode cX0_row 13 = .ok (.iconst (-1), 1) := dk_2 (dk_at dksX0_row_0 13 rfl rfl)
theorem dX0_row_14 : decode cX0_row 14 = .ok (.ireturn, 1) := dk_172 (dk_at dksX0_row_0 14 rfl rfl)
theorem dX0_row_15 : decode cX0_row 15 = .ok (.aload_n 0, 1) := dk_42 (dk_at dksX0_row_0 15 rfl rfl)
theorem dX0_row_16 : decode cX0_row 16 = .ok (.getfield 25, 3) := dk_180 0 25 (dk_at dksX0_row_0 16 rfl rfl)
theorem dX0_row_19 : decode cX0_row 19 = .ok (.iload_n 1, 1) := dk_27 (dk_at dksX0_row_0 19 rfl rfl)
theorem dX0_row_20 : decode cX0_row 20 = .ok (.iload_n 2, 1) := dk_28 (dk_at dksX0_row_0 20 rfl rfl)
theorem dX0_row_21 : decode cX0_row 21 = .ok (.newarray .int, 2) := dk_188_10 (dk_at dksX0_row_0 21 rfl rfl)
theorem dX0_row_23 : decode cX0_row 23 = .ok (.aastore, 1) := dk_83 (dk_at dksX0_row_0 23 rfl rfl)
theorem dX0_row_24 : decode cX0_row 24 = .ok (.iload_n 2, 1) := dk_28 (dk_at dksX0_row_1 0 rfl rfl)
theorem dX0_row_25 : decode cX0_row 25 = .ok (.ireturn, 1) := dk_172 (dk_at dksX0_row_1 1 rfl rfl)
theorem dX0_row_26 : decode cX0_row 26 = .ok (.astore_n 3, 1) := dk_78 (dk_at dksX0_row_1 2 rfl rfl)
theorem dX0_row_27 : decode cX0_row 27 = .ok (.aload_n 0, 1) := dk_42 (dk_at dksX0_row_1 3 rfl rfl)
theorem dX0_row_28 : decode cX0_row 28 = .ok (.iconst 5, 1) := dk_8 (dk_at dksX0_row_1 4 rfl rfl)
theorem dX0_row_29 : decode cX0_row 29 = .ok (.invokevirtual 75, 3) := dk_182 0 75 (dk_at dksX0_row_1 5 rfl rfl)
theorem dX0_row_32 : decode cX0_row 32 = .ok (.ireturn, 1) := dk_172 (dk_at dksX0_row_1 8 rfl rfl)
abbrev cX0_isRow : ByteArray := prog_1_method_10_code
def yX0_isRow : MethodName := ⟨RX0, "isRow", "(I)Z"⟩
def dkwX0_isRow_0 : List UInt8 := [26, 3, 8, 184, 0, 65, 172]
abbrev dktX0_isRow_0 : List UInt8 := dkwX0_isRow_0 ++ []
theorem dksX0_isRow_0 : cX0_isRow.data.toList.drop 0 = dktX0_isRow_0 := by decide +kernel
theorem dX0_isRow_0 : decode cX0_isRow 0 = .ok (.iload_n 0, 1) := dk_26 (dk_at dksX0_isRow_0 0 rfl rfl)
theorem dX0_isRow_1 : decode cX0_isRow 1 = .ok (.iconst 0, 1) := dk_3 (dk_at dksX0_isRow_0 1 rfl rfl)
theorem dX0_isRow_2 : decode cX0_isRow 2 = .ok (.iconst 5, 1) := dk_8 (dk_at dksX0_isRow_0 2 rfl rfl)
theorem dX0_isRow_3 : decode cX0_isRow 3 = .ok (.invokestatic 65, 3) := dk_184 0 65 (dk_at dksX0_isRow_0 3 rfl rfl)
theorem dX0_isRow_6 : decode cX0_isRow 6 = .ok (.ireturn, 1) := dk_172 (dk_at dksX0_isRow_0 6 rfl rfl)
abbrev cX0_in : ByteArray := prog_1_method_1_code
def yX0_in : MethodName := ⟨RX0, "in", "(III)Z"⟩
def dkwX0_in_0 : List UInt8 := [26, 27, 161, 0, 12, 26, 28, 163, 0, 7, 4, 167, 0, 4, 3, 172]
abbrev dktX0_in_0 : List UInt8 := dkwX0_in_0 ++ []
theorem dksX0_in_0 : cX0_in.data.toList.drop 0 = dktX0_in_0 := by decide +kernel
theorem dX0_in_0 : decode cX0_in 0 = .ok (.iload_n 0, 1) := dk_26 (dk_at dksX0_in_0 0 rfl rfl)
theorem dX0_in_1 : decode cX0_in 1 = .ok (.iload_n 1, 1) := dk_27 (dk_at dksX0_in_0 1 rfl rfl)
theorem dX0_in_2 : decode cX0_in 2 = .ok (.if_icmp .lt 12, 3) := dk_161 0 12 (dk_at dksX0_in_0 2 rfl rfl)
theorem dX0_in_5 : decode cX0_in 5 = .ok (.iload_n 0, 1) := dk_26 (dk_at dksX0_in_0 5 rfl rfl)
theorem dX0_in_6 : decode cX0_in 6 = .ok (.iload_n 2, 1) := dk_28 (dk_at dksX0_in_0 6 rfl rfl)
theorem dX0_in_7 : decode cX0_in 7 = .ok (.if_icmp .gt 7, 3) := dk_163 0 7 (dk_at dksX0_in_0 7 rfl rfl)
theorem dX0_in_10 : decode cX0_in 10 = .ok (.iconst 1, 1) := dk_4 (dk_at dksX0_in_0 10 rfl rfl)
theorem dX0_in_11 : decode cX0_in 11 = .ok (.goto 4, 3) := dk_167 0 4 (dk_at dksX0_in_0 11 rfl rfl)
theorem dX0_in_14 : decode cX0_in 14 = .ok (.iconst 0, 1) := dk_3 (dk_at dksX0_in_0 14 rfl rfl)
theorem dX0_in_15 : decode cX0_in 15 = .ok (.ireturn, 1) := dk_172 (dk_at dksX0_in_0 15 rfl rfl)
abbrev cX0_found : ByteArray := prog_1_method_3_code
def yX0_found : MethodName := ⟨RX0, "found", "(I)I"⟩
def dkwX0_found_0 : List UInt8 := [42, 27, 181, 0, 3, 42, 180, 0, 7, 27, 92, 46, 4, 96, 79, 16, 253, 172]
abbrev dktX0_found_0 : List UInt8 := dkwX0_found_0 ++ []
theorem dksX0_found_0 : cX0_found.data.toList.drop 0 = dktX0_found_0 := by decide +kernel
theorem dX0_found_0 : decode cX0_found 0 = .ok (.aload_n 0, 1) := dk_42 (dk_at dksX0_found_0 0 rfl rfl)
theorem dX0_found_1 : decode cX0_found 1 = .ok (.iload_n 1, 1) := dk_27 (dk_at dksX0_found_0 1 rfl rfl)
theorem dX0_found_2 : decode cX0_found 2 = .ok (.putfield 3, 3) := dk_181 0 3 (dk_at dksX0_found_0 2 rfl rfl)
theorem dX0_found_5 : decode cX0_found 5 = .ok (.aload_n 0, 1) := dk_42 (dk_at dksX0_found_0 5 rfl rfl)
theorem dX0_found_6 : decode cX0_found 6 = .ok (.getfield 7, 3) := dk_180 0 7 (dk_at dksX0_found_0 6 rfl rfl)
theorem dX0_found_9 : decode cX0_found 9 = .ok (.iload_n 1, 1) := dk_27 (dk_at dksX0_found_0 9 rfl rfl)
theorem dX0_found_10 : decode cX0_found 10 = .ok (.dup2, 1) := dk_92 (dk_at dksX0_found_0 10 rfl rfl)
theorem dX0_found_11 : decode cX0_found 11 = .ok (.iaload, 1) := dk_46 (dk_at dksX0_found_0 11 rfl rfl)
theorem dX0_found_12 : decode cX0_found 12 = .ok (.iconst 1, 1) := dk_4 (dk_at dksX0_found_0 12 rfl rfl)
theorem dX0_found_13 : decode cX0_found 13 = .ok (.iadd, 1) := dk_96 (dk_at dksX0_found_0 13 rfl rfl)
theorem dX0_found_14 : decode cX0_found 14 = .ok (.iastore, 1) := dk_79 (dk_at dksX0_found_0 14 rfl rfl)
theorem dX0_found_15 : decode cX0_found 15 = .ok (.bipush (-3), 2) := dk_16 253 (dk_at dksX0_found_0 15 rfl rfl)
theorem dX0_found_17 : decode cX0_found 17 = .ok (.ireturn, 1) := dk_172 (dk_at dksX0_found_0 17 rfl rfl)
abbrev cX0_lay : ByteArray := prog_1_method_12_code
def yX0_lay : MethodName := ⟨RX0, "lay", "(III)I"⟩
def dkwX0_lay_2 : List UInt8 := [182, 0, 75, 172]
abbrev dktX0_lay_2 : List UInt8 := dkwX0_lay_2 ++ []
def dkwX0_lay_1 : List UInt8 := [50, 28, 29, 79, 42, 21, 4, 4, 182, 0, 79, 172, 58, 4, 42, 4, 182, 0, 75, 172, 58, 4, 42, 5]
abbrev dktX0_lay_1 : List UInt8 := dkwX0_lay_1 ++ dktX0_lay_2
def dkwX0_lay_0 : List UInt8 := [27, 184, 0, 69, 154, 0, 5, 2, 172, 42, 180, 0, 25, 27, 50, 28, 46, 54, 4, 42, 180, 0, 25, 27]
abbrev dktX0_lay_0 : List UInt8 := dkwX0_lay_0 ++ dktX0_lay_1
theorem dksX0_lay_0 : cX0_lay.data.toList.drop 0 = dktX0_lay_0 := by decide +kernel
theorem dksX0_lay_1 : cX0_lay.data.toList.drop 24 = dktX0_lay_1 := dk_seg dksX0_lay_0 24 rfl rfl
theorem dksX0_lay_2 : cX0_lay.data.toList.drop 48 = dktX0_lay_2 := dk_seg dksX0_lay_1 24 rfl rfl
theorem dX0_lay_0 : decode cX0_lay 0 = .ok (.iload_n 1, 1) := dk_27 (dk_at dksX0_lay_0 0 rfl rfl)
theorem dX0_lay_1 : decode cX0_lay 1 = .ok (.invokestatic 69, 3) := dk_184 0 69 (dk_at dksX0_lay_0 1 rfl rfl)
theorem dX0_lay_4 : decode cX0_lay 4 = .ok (.ifCond .ne 5, 3) := dk_154 0 5 (dk_at dksX0_lay_0 4 rfl rfl)
theorem dX0_lay_7 : decode cX0_lay 7 = .ok (.iconst (-1), 1) := dk_2 (dk_at dksX0_lay_0 7 rfl rfl)
theorem dX0_lay_8 : decode cX0_lay 8 = .ok (.ireturn, 1) := dk_172 (dk_at dksX0_lay_0 8 rfl rfl)
theorem dX0_lay_9 : decode cX0_lay 9 = .ok (.aload_n 0, 1) := dk_42 (dk_at dksX0_lay_0 9 rfl rfl)
theorem dX0_lay_10 : decode cX0_lay 10 = .ok (.getfield 25, 3) := dk_180 0 25 (dk_at dksX0_lay_0 10 rfl rfl)
theorem dX0_lay_13 : decode cX0_lay 13 = .ok (.iload_n 1, 1) := dk_27 (dk_at dksX0_lay_0 13 rfl rfl)
theorem dX0_lay_14 : decode cX0_lay 14 = .ok (.aaload, 1) := dk_50 (dk_at dksX0_lay_0 14 rfl rfl)
theorem dX0_lay_15 : decode cX0_lay 15 = .ok (.iload_n 2, 1) := dk_28 (dk_at dksX0_lay_0 15 rfl rfl)
theorem dX0_lay_16 : decode cX0_lay 16 = .ok (.iaload, 1) := dk_46 (dk_at dksX0_lay_0 16 rfl rfl)
theorem dX0_lay_17 : decode cX0_lay 17 = .ok (.istore 4, 2) := dk_54 4 (dk_at dksX0_lay_0 17 rfl rfl)
theorem dX0_lay_19 : decode cX0_lay 19 = .ok (.aload_n 0, 1) := dk_42 (dk_at dksX0_lay_0 19 rfl rfl)
theorem dX0_lay_20 : decode cX0_lay 20 = .ok (.getfield 25, 3) := dk_180 0 25 (dk_at dksX0_lay_0 20 rfl rfl)
theorem dX0_lay_23 : decode cX0_lay 23 = .ok (.iload_n 1, 1) := dk_27 (dk_at dksX0_lay_0 23 rfl rfl)
theorem dX0_lay_24 : decode cX0_lay 24 = .ok (.aaload, 1) := dk_50 (dk_at dksX0_lay_1 0 rfl rfl)
theorem dX0_lay_25 : decode cX0_lay 25 = .ok (.iload_n 2, 1) := dk_28 (dk_at dksX0_lay_1 1 rfl rfl)
theorem dX0_lay_26 : decode cX0_lay 26 = .ok (.iload_n 3, 1) := dk_29 (dk_at dksX0_lay_1 2 rfl rfl)
theorem dX0_lay_27 : decode cX0_lay 27 = .ok (.iastore, 1) := dk_79 (dk_at dksX0_lay_1 3 rfl rfl)
theorem dX0_lay_28 : decode cX0_lay 28 = .ok (.aload_n 0, 1) := dk_42 (dk_at dksX0_lay_1 4 rfl rfl)
theorem dX0_lay_29 : decode cX0_lay 29 = .ok (.iload 4, 2) := dk_21 4 (dk_at dksX0_lay_1 5 rfl rfl)
theorem dX0_lay_31 : decode cX0_lay 31 = .ok (.iconst 1, 1) := dk_4 (dk_at dksX0_lay_1 7 rfl rfl)
theorem dX0_lay_32 : decode cX0_lay 32 = .ok (.invokevirtual 79, 3) := dk_182 0 79 (dk_at dksX0_lay_1 8 rfl rfl)
theorem dX0_lay_35 : decode cX0_lay 35 = .ok (.ireturn, 1) := dk_172 (dk_at dksX0_lay_1 11 rfl rfl)
theorem dX0_lay_36 : decode cX0_lay 36 = .ok (.astore 4, 2) := dk_58 4 (dk_at dksX0_lay_1 12 rfl rfl)
theorem dX0_lay_38 : decode cX0_lay 38 = .ok (.aload_n 0, 1) := dk_42 (dk_at dksX0_lay_1 14 rfl rfl)
theorem dX0_lay_39 : decode cX0_lay 39 = .ok (.iconst 1, 1) := dk_4 (dk_at dksX0_lay_1 15 rfl rfl)
theorem dX0_lay_40 : decode cX0_lay 40 = .ok (.invokevirtual 75, 3) := dk_182 0 75 (dk_at dksX0_lay_1 16 rfl rfl)
theorem dX0_lay_43 : decode cX0_lay 43 = .ok (.ireturn, 1) := dk_172 (dk_at dksX0_lay_1 19 rfl rfl)
theorem dX0_lay_44 : decode cX0_lay 44 = .ok (.astore 4, 2) := dk_58 4 (dk_at dksX0_lay_1 20 rfl rfl)
theorem dX0_lay_46 : decode cX0_lay 46 = .ok (.aload_n 0, 1) := dk_42 (dk_at dksX0_lay_1 22 rfl rfl)
theorem dX0_lay_47 : decode cX0_lay 47 = .ok (.iconst 2, 1) := dk_5 (dk_at dksX0_lay_1 23 rfl rfl)
theorem dX0_lay_48 : decode cX0_lay 48 = .ok (.invokevirtual 75, 3) := dk_182 0 75 (dk_at dksX0_lay_2 0 rfl rfl)
theorem dX0_lay_51 : decode cX0_lay 51 = .ok (.ireturn, 1) := dk_172 (dk_at dksX0_lay_2 3 rfl rfl)
abbrev cX0_say : ByteArray := prog_1_method_4_code
def yX0_say : MethodName := ⟨RX0, "say", "(II)I"⟩
def dkwX0_say_0 : List UInt8 := [42, 27, 181, 0, 11, 28, 172]
abbrev dktX0_say_0 : List UInt8 := dkwX0_say_0 ++ []
theorem dksX0_say_0 : cX0_say.data.toList.drop 0 = dktX0_say_0 := by decide +kernel
theorem dX0_say_0 : decode cX0_say 0 = .ok (.aload_n 0, 1) := dk_42 (dk_at dksX0_say_0 0 rfl rfl)
theorem dX0_say_1 : decode cX0_say 1 = .ok (.iload_n 1, 1) := dk_27 (dk_at dksX0_say_0 1 rfl rfl)
theorem dX0_say_2 : decode cX0_say 2 = .ok (.putfield 11, 3) := dk_181 0 11 (dk_at dksX0_say_0 2 rfl rfl)
theorem dX0_say_5 : decode cX0_say 5 = .ok (.iload_n 2, 1) := dk_28 (dk_at dksX0_say_0 5 rfl rfl)
theorem dX0_say_6 : decode cX0_say 6 = .ok (.ireturn, 1) := dk_172 (dk_at dksX0_say_0 6 rfl rfl)
abbrev cX0_at : ByteArray := prog_1_method_13_code
def yX0_at : MethodName := ⟨RX0, "at", "(II)I"⟩
def dkwX0_at_1 : List UInt8 := [42, 4, 182, 0, 75, 172, 78, 42, 5, 182, 0, 75, 172]
abbrev dktX0_at_1 : List UInt8 := dkwX0_at_1 ++ []
def dkwX0_at_0 : List UInt8 := [27, 184, 0, 69, 154, 0, 5, 2, 172, 42, 42, 180, 0, 25, 27, 50, 28, 46, 4, 182, 0, 79, 172, 78]
abbrev dktX0_at_0 : List UInt8 := dkwX0_at_0 ++ dktX0_at_1
theorem dksX0_at_0 : cX0_at.data.toList.drop 0 = dktX0_at_0 := by decide +kernel
theorem dksX0_at_1 : cX0_at.data.toList.drop 24 = dktX0_at_1 := dk_seg dksX0_at_0 24 rfl rfl
theorem dX0_at_0 : decode cX0_at 0 = .ok (.iload_n 1, 1) := dk_27 (dk_at dksX0_at_0 0 rfl rfl)
theorem dX0_at_1 : decode cX0_at 1 = .ok (.invokestatic 69, 3) := dk_184 0 69 (dk_at dksX0_at_0 1 rfl rfl)
theorem dX0_at_4 : decode cX0_at 4 = .ok (.ifCond .ne 5, 3) := dk_154 0 5 (dk_at dksX0_at_0 4 rfl rfl)
theorem dX0_at_7 : decode cX0_at 7 = .ok (.iconst (-1), 1) := dk_2 (dk_at dksX0_at_0 7 rfl rfl)
theorem dX0_at_8 : decode cX0_at 8 = .ok (.ireturn, 1) := dk_172 (dk_at dksX0_at_0 8 rfl rfl)
theorem dX0_at_9 : decode cX0_at 9 = .ok (.aload_n 0, 1) := dk_42 (dk_at dksX0_at_0 9 rfl rfl)
theorem dX0_at_10 : decode cX0_at 10 = .ok (.aload_n 0, 1) := dk_42 (dk_at dksX0_at_0 10 rfl rfl)
theorem dX0_at_11 : decode cX0_at 11 = .ok (.getfield 25, 3) := dk_180 0 25 (dk_at dksX0_at_0 11 rfl rfl)
theorem dX0_at_14 : decode cX0_at 14 = .ok (.iload_n 1, 1) := dk_27 (dk_at dksX0_at_0 14 rfl rfl)
theorem dX0_at_15 : decode cX0_at 15 = .ok (.aaload, 1) := dk_50 (dk_at dksX0_at_0 15 rfl rfl)
theorem dX0_at_16 : decode cX0_at 16 = .ok (.iload_n 2, 1) := dk_28 (dk_at dksX0_at_0 16 rfl rfl)
theorem dX0_at_17 : decode cX0_at 17 = .ok (.iaload, 1) := dk_46 (dk_at dksX0_at_0 17 rfl rfl)
theorem dX0_at_18 : decode cX0_at 18 = .ok (.iconst 1, 1) := dk_4 (dk_at dksX0_at_0 18 rfl rfl)
theorem dX0_at_19 : decode cX0_at 19 = .ok (.invokevirtual 79, 3) := dk_182 0 79 (dk_at dksX0_at_0 19 rfl rfl)
theorem dX0_at_22 : decode cX0_at 22 = .ok (.ireturn, 1) := dk_172 (dk_at dksX0_at_0 22 rfl rfl)
theorem dX0_at_23 : decode cX0_at 23 = .ok (.astore_n 3, 1) := dk_78 (dk_at dksX0_at_0 23 rfl rfl)
theorem dX0_at_24 : decode cX0_at 24 = .ok (.aload_n 0, 1) := dk_42 (dk_at dksX0_at_1 0 rfl rfl)
theorem dX0_at_25 : decode cX0_at 25 = .ok (.iconst 1, 1) := dk_4 (dk_at dksX0_at_1 1 rfl rfl)
theorem dX0_at_26 : decode cX0_at 26 = .ok (.invokevirtual 75, 3) := dk_182 0 75 (dk_at dksX0_at_1 2 rfl rfl)
theorem dX0_at_29 : decode cX0_at 29 = .ok (.ireturn, 1) := dk_172 (dk_at dksX0_at_1 5 rfl rfl)
theorem dX0_at_30 : decode cX0_at 30 = .ok (.astore_n 3, 1) := dk_78 (dk_at dksX0_at_1 6 rfl rfl)
theorem dX0_at_31 : decode cX0_at 31 = .ok (.aload_n 0, 1) := dk_42 (dk_at dksX0_at_1 7 rfl rfl)
theorem dX0_at_32 : decode cX0_at 32 = .ok (.iconst 2, 1) := dk_5 (dk_at dksX0_at_1 8 rfl rfl)
theorem dX0_at_33 : decode cX0_at 33 = .ok (.invokevirtual 75, 3) := dk_182 0 75 (dk_at dksX0_at_1 9 rfl rfl)
theorem dX0_at_36 : decode cX0_at 36 = .ok (.ireturn, 1) := dk_172 (dk_at dksX0_at_1 12 rfl rfl)
abbrev cX0_tear : ByteArray := prog_1_method_14_code
def yX0_tear : MethodName := ⟨RX0, "tear", "(I)I"⟩
def dkwX0_tear_1 : List UInt8 := [42, 180, 0, 25, 27, 1, 83, 4, 172]
abbrev dktX0_tear_1 : List UInt8 := dkwX0_tear_1 ++ []
def dkwX0_tear_0 : List UInt8 := [27, 184, 0, 69, 154, 0, 5, 2, 172, 42, 180, 0, 25, 27, 50, 199, 0, 9, 42, 4, 182, 0, 75, 172]
abbrev dktX0_tear_0 : List UInt8 := dkwX0_tear_0 ++ dktX0_tear_1
theorem dksX0_tear_0 : cX0_tear.data.toList.drop 0 = dktX0_tear_0 := by decide +kernel
theorem dksX0_tear_1 : cX0_tear.data.toList.drop 24 = dktX0_tear_1 := dk_seg dksX0_tear_0 24 rfl rfl
theorem dX0_tear_0 : decode cX0_tear 0 = .ok (.iload_n 1, 1) := dk_27 (dk_at dksX0_tear_0 0 rfl rfl)
theorem dX0_tear_1 : decode cX0_tear 1 = .ok (.invokestatic 69, 3) := dk_184 0 69 (dk_at dksX0_tear_0 1 rfl rfl)
theorem dX0_tear_4 : decode cX0_tear 4 = .ok (.ifCond .ne 5, 3) := dk_154 0 5 (dk_at dksX0_tear_0 4 rfl rfl)
theorem dX0_tear_7 : decode cX0_tear 7 = .ok (.iconst (-1), 1) := dk_2 (dk_at dksX0_tear_0 7 rfl rfl)
theorem dX0_tear_8 : decode cX0_tear 8 = .ok (.ireturn, 1) := dk_172 (dk_at dksX0_tear_0 8 rfl rfl)
theorem dX0_tear_9 : decode cX0_tear 9 = .ok (.aload_n 0, 1) := dk_42 (dk_at dksX0_tear_0 9 rfl rfl)
theorem dX0_tear_10 : decode cX0_tear 10 = .ok (.getfield 25, 3) := dk_180 0 25 (dk_at dksX0_tear_0 10 rfl rfl)
theorem dX0_tear_13 : decode cX0_tear 13 = .ok (.iload_n 1, 1) := dk_27 (dk_at dksX0_tear_0 13 rfl rfl)
theorem dX0_tear_14 : decode cX0_tear 14 = .ok (.aaload, 1) := dk_50 (dk_at dksX0_tear_0 14 rfl rfl)
theorem dX0_tear_15 : decode cX0_tear 15 = .ok (.ifnonnull 9, 3) := dk_199 0 9 (dk_at dksX0_tear_0 15 rfl rfl)
theorem dX0_tear_18 : decode cX0_tear 18 = .ok (.aload_n 0, 1) := dk_42 (dk_at dksX0_tear_0 18 rfl rfl)
theorem dX0_tear_19 : decode cX0_tear 19 = .ok (.iconst 1, 1) := dk_4 (dk_at dksX0_tear_0 19 rfl rfl)
theorem dX0_tear_20 : decode cX0_tear 20 = .ok (.invokevirtual 75, 3) := dk_182 0 75 (dk_at dksX0_tear_0 20 rfl rfl)
theorem dX0_tear_23 : decode cX0_tear 23 = .ok (.ireturn, 1) := dk_172 (dk_at dksX0_tear_0 23 rfl rfl)
theorem dX0_tear_24 : decode cX0_tear 24 = .ok (.aload_n 0, 1) := dk_42 (dk_at dksX0_tear_1 0 rfl rfl)
theorem dX0_tear_25 : decode cX0_tear 25 = .ok (.getfield 25, 3) := dk_180 0 25 (dk_at dksX0_tear_1 1 rfl rfl)
theorem dX0_tear_28 : decode cX0_tear 28 = .ok (.iload_n 1, 1) := dk_27 (dk_at dksX0_tear_1 4 rfl rfl)
theorem dX0_tear_29 : decode cX0_tear 29 = .ok (.aconst_null, 1) := dk_1 (dk_at dksX0_tear_1 5 rfl rfl)
theorem dX0_tear_30 : decode cX0_tear 30 = .ok (.aastore, 1) := dk_83 (dk_at dksX0_tear_1 6 rfl rfl)
theorem dX0_tear_31 : decode cX0_tear 31 = .ok (.iconst 1, 1) := dk_4 (dk_at dksX0_tear_1 7 rfl rfl)
theorem dX0_tear_32 : decode cX0_tear 32 = .ok (.ireturn, 1) := dk_172 (dk_at dksX0_tear_1 8 rfl rfl)
abbrev cX0_copy : ByteArray := prog_1_method_15_code
def yX0_copy : MethodName := ⟨RX0, "copy", "(IIIII)I"⟩
def dkwX0_copy_2 : List UInt8 := [4, 172, 58, 6, 42, 4, 182, 0, 75, 172, 58, 6, 42, 5, 182, 0, 75, 172]
abbrev dktX0_copy_2 : List UInt8 := dkwX0_copy_2 ++ []
def dkwX0_copy_1 : List UInt8 := [182, 0, 75, 172, 42, 180, 0, 25, 27, 50, 28, 42, 180, 0, 25, 29, 50, 21, 4, 21, 5, 184, 0, 87]
abbrev dktX0_copy_1 : List UInt8 := dkwX0_copy_1 ++ dktX0_copy_2
def dkwX0_copy_0 : List UInt8 := [27, 184, 0, 69, 153, 0, 10, 29, 184, 0, 69, 154, 0, 5, 2, 172, 21, 5, 156, 0, 9, 42, 8]
abbrev dktX0_copy_0 : List UInt8 := dkwX0_copy_0 ++ dktX0_copy_1
theorem dksX0_copy_0 : cX0_copy.data.toList.drop 0 = dktX0_copy_0 := by decide +kernel
theorem dksX0_copy_1 : cX0_copy.data.toList.drop 23 = dktX0_copy_1 := dk_seg dksX0_copy_0 23 rfl rfl
theorem dksX0_copy_2 : cX0_copy.data.toList.drop 47 = dktX0_copy_2 := dk_seg dksX0_copy_1 24 rfl rfl
theorem dX0_copy_0 : decode cX0_copy 0 = .ok (.iload_n 1, 1) := dk_27 (dk_at dksX0_copy_0 0 rfl rfl)
theorem dX0_copy_1 : decode cX0_copy 1 = .ok (.invokestatic 69, 3) := dk_184 0 69 (dk_at dksX0_copy_0 1 rfl rfl)
theorem dX0_copy_4 : decode cX0_copy 4 = .ok (.ifCond .eq 10, 3) := dk_153 0 10 (dk_at dksX0_copy_0 4 rfl rfl)
theorem dX0_copy_7 : decode cX0_copy 7 = .ok (.iload_n 3, 1) := dk_29 (dk_at dksX0_copy_0 7 rfl rfl)
theorem dX0_copy_8 : decode cX0_copy 8 = .ok (.invokestatic 69, 3) := dk_184 0 69 (dk_at dksX0_copy_0 8 rfl rfl)
theorem dX0_copy_11 : decode cX0_copy 11 = .ok (.ifCond .ne 5, 3) := dk_154 0 5 (dk_at dksX0_copy_0 11 rfl rfl)
theorem dX0_copy_14 : decode cX0_copy 14 = .ok (.iconst (-1), 1) := dk_2 (dk_at dksX0_copy_0 14 rfl rfl)
theorem dX0_copy_15 : decode cX0_copy 15 = .ok (.ireturn, 1) := dk_172 (dk_at dksX0_copy_0 15 rfl rfl)
theorem dX0_copy_16 : decode cX0_copy 16 = .ok (.iload 5, 2) := dk_21 5 (dk_at dksX0_copy_0 16 rfl rfl)
theorem dX0_copy_18 : decode cX0_copy 18 = .ok (.ifCond .ge 9, 3) := dk_156 0 9 (dk_at dksX0_copy_0 18 rfl rfl)
theorem dX0_copy_21 : decode cX0_copy 21 = .ok (.aload_n 0, 1) := dk_42 (dk_at dksX0_copy_0 21 rfl rfl)
theorem dX0_copy_22 : decode cX0_copy 22 = .ok (.iconst 5, 1) := dk_8 (dk_at dksX0_copy_0 22 rfl rfl)
theorem dX0_copy_23 : decode cX0_copy 23 = .ok (.invokevirtual 75, 3) := dk_182 0 75 (dk_at dksX0_copy_1 0 rfl rfl)
theorem dX0_copy_26 : decode cX0_copy 26 = .ok (.ireturn, 1) := dk_172 (dk_at dksX0_copy_1 3 rfl rfl)
theorem dX0_copy_27 : decode cX0_copy 27 = .ok (.aload_n 0, 1) := dk_42 (dk_at dksX0_copy_1 4 rfl rfl)
theorem dX0_copy_28 : decode cX0_copy 28 = .ok (.getfield 25, 3) := dk_180 0 25 (dk_at dksX0_copy_1 5 rfl rfl)
theorem dX0_copy_31 : decode cX0_copy 31 = .ok (.iload_n 1, 1) := dk_27 (dk_at dksX0_copy_1 8 rfl rfl)
theorem dX0_copy_32 : decode cX0_copy 32 = .ok (.aaload, 1) := dk_50 (dk_at dksX0_copy_1 9 rfl rfl)
theorem dX0_copy_33 : decode cX0_copy 33 = .ok (.iload_n 2, 1) := dk_28 (dk_at dksX0_copy_1 10 rfl rfl)
theorem dX0_copy_34 : decode cX0_copy 34 = .ok (.aload_n 0, 1) := dk_42 (dk_at dksX0_copy_1 11 rfl rfl)
theorem dX0_copy_35 : decode cX0_copy 35 = .ok (.getfield 25, 3) := dk_180 0 25 (dk_at dksX0_copy_1 12 rfl rfl)
theorem dX0_copy_38 : decode cX0_copy 38 = .ok (.iload_n 3, 1) := dk_29 (dk_at dksX0_copy_1 15 rfl rfl)
theorem dX0_copy_39 : decode cX0_copy 39 = .ok (.aaload, 1) := dk_50 (dk_at dksX0_copy_1 16 rfl rfl)
theorem dX0_copy_40 : decode cX0_copy 40 = .ok (.iload 4, 2) := dk_21 4 (dk_at dksX0_copy_1 17 rfl rfl)
theorem dX0_copy_42 : decode cX0_copy 42 = .ok (.iload 5, 2) := dk_21 5 (dk_at dksX0_copy_1 19 rfl rfl)
theorem dX0_copy_44 : decode cX0_copy 44 = .ok (.invokestatic 87, 3) := dk_184 0 87 (dk_at dksX0_copy_1 21 rfl rfl)
theorem dX0_copy_47 : decode cX0_copy 47 = .ok (.iconst 1, 1) := dk_4 (dk_at dksX0_copy_2 0 rfl rfl)
theorem dX0_copy_48 : decode cX0_copy 48 = .ok (.ireturn, 1) := dk_172 (dk_at dksX0_copy_2 1 rfl rfl)
theorem dX0_copy_49 : decode cX0_copy 49 = .ok (.astore 6, 2) := dk_58 6 (dk_at dksX0_copy_2 2 rfl rfl)
theorem dX0_copy_51 : decode cX0_copy 51 = .ok (.aload_n 0, 1) := dk_42 (dk_at dksX0_copy_2 4 rfl rfl)
theorem dX0_copy_52 : decode cX0_copy 52 = .ok (.iconst 1, 1) := dk_4 (dk_at dksX0_copy_2 5 rfl rfl)
theorem dX0_copy_53 : decode cX0_copy 53 = .ok (.invokevirtual 75, 3) := dk_182 0 75 (dk_at dksX0_copy_2 6 rfl rfl)
theorem dX0_copy_56 : decode cX0_copy 56 = .ok (.ireturn, 1) := dk_172 (dk_at dksX0_copy_2 9 rfl rfl)
theorem dX0_copy_57 : decode cX0_copy 57 = .ok (.astore 6, 2) := dk_58 6 (dk_at dksX0_copy_2 10 rfl rfl)
theorem dX0_copy_59 : decode cX0_copy 59 = .ok (.aload_n 0, 1) := dk_42 (dk_at dksX0_copy_2 12 rfl rfl)
theorem dX0_copy_60 : decode cX0_copy 60 = .ok (.iconst 2, 1) := dk_5 (dk_at dksX0_copy_2 13 rfl rfl)
theorem dX0_copy_61 : decode cX0_copy 61 = .ok (.invokevirtual 75, 3) := dk_182 0 75 (dk_at dksX0_copy_2 14 rfl rfl)
theorem dX0_copy_64 : decode cX0_copy 64 = .ok (.ireturn, 1) := dk_172 (dk_at dksX0_copy_2 17 rfl rfl)
abbrev cX0_mean : ByteArray := prog_1_method_16_code
def yX0_mean : MethodName := ⟨RX0, "mean", "(I)I"⟩
def dkwX0_mean_3 : List UInt8 := [4, 182, 0, 79, 172, 58, 4, 42, 7, 182, 0, 75, 172]
abbrev dktX0_mean_3 : List UInt8 := dkwX0_mean_3 ++ []
def dkwX0_mean_2 : List UInt8 := [21, 4, 46, 133, 97, 65, 132, 4, 1, 167, 255, 228, 42, 32, 42, 180, 0, 25, 27, 50, 190, 133, 109, 136]
abbrev dktX0_mean_2 : List UInt8 := dkwX0_mean_2 ++ dktX0_mean_3
def dkwX0_mean_1 : List UInt8 := [9, 65, 3, 54, 4, 21, 4, 42, 180, 0, 25, 27, 50, 190, 162, 0, 22, 32, 42, 180, 0, 25, 27, 50]
abbrev dktX0_mean_1 : List UInt8 := dkwX0_mean_1 ++ dktX0_mean_2
def dkwX0_mean_0 : List UInt8 := [27, 184, 0, 69, 154, 0, 5, 2, 172, 42, 180, 0, 25, 27, 50, 199, 0, 9, 42, 4, 182, 0, 75, 172]
abbrev dktX0_mean_0 : List UInt8 := dkwX0_mean_0 ++ dktX0_mean_1
theorem dksX0_mean_0 : cX0_mean.data.toList.drop 0 = dktX0_mean_0 := by decide +kernel
theorem dksX0_mean_1 : cX0_mean.data.toList.drop 24 = dktX0_mean_1 := dk_seg dksX0_mean_0 24 rfl rfl
theorem dksX0_mean_2 : cX0_mean.data.toList.drop 48 = dktX0_mean_2 := dk_seg dksX0_mean_1 24 rfl rfl
theorem dksX0_mean_3 : cX0_mean.data.toList.drop 72 = dktX0_mean_3 := dk_seg dksX0_mean_2 24 rfl rfl
theorem dX0_mean_0 : decode cX0_mean 0 = .ok (.iload_n 1, 1) := dk_27 (dk_at dksX0_mean_0 0 rfl rfl)
theorem dX0_mean_1 : decode cX0_mean 1 = .ok (.invokestatic 69, 3) := dk_184 0 69 (dk_at dksX0_mean_0 1 rfl rfl)
theorem dX0_mean_4 : decode cX0_mean 4 = .ok (.ifCond .ne 5, 3) := dk_154 0 5 (dk_at dksX0_mean_0 4 rfl rfl)
theorem dX0_mean_7 : decode cX0_mean 7 = .ok (.iconst (-1), 1) := dk_2 (dk_at dksX0_mean_0 7 rfl rfl)
theorem dX0_mean_8 : decode cX0_mean 8 = .ok (.ireturn, 1) := dk_172 (dk_at dksX0_mean_0 8 rfl rfl)
theorem dX0_mean_9 : decode cX0_mean 9 = .ok (.aload_n 0, 1) := dk_42 (dk_at dksX0_mean_0 9 rfl rfl)
theorem dX0_mean_10 : decode cX0_mean 10 = .ok (.getfield 25, 3) := dk_180 0 25 (dk_at dksX0_mean_0 10 rfl rfl)
theorem dX0_mean_13 : decode cX0_mean 13 = .ok (.iload_n 1, 1) := dk_27 (dk_at dksX0_mean_0 13 rfl rfl)
theorem dX0_mean_14 : decode cX0_mean 14 = .ok (.aaload, 1) := dk_50 (dk_at dksX0_mean_0 14 rfl rfl)
theorem dX0_mean_15 : decode cX0_mean 15 = .ok (.ifnonnull 9, 3) := dk_199 0 9 (dk_at dksX0_mean_0 15 rfl rfl)
theorem dX0_mean_18 : decode cX0_mean 18 = .ok (.aload_n 0, 1) := dk_42 (dk_at dksX0_mean_0 18 rfl rfl)
theorem dX0_mean_19 : decode cX0_mean 19 = .ok (.iconst 1, 1) := dk_4 (dk_at dksX0_mean_0 19 rfl rfl)
theorem dX0_mean_20 : decode cX0_mean 20 = .ok (.invokevirtual 75, 3) := dk_182 0 75 (dk_at dksX0_mean_0 20 rfl rfl)
theorem dX0_mean_23 : decode cX0_mean 23 = .ok (.ireturn, 1) := dk_172 (dk_at dksX0_mean_0 23 rfl rfl)
theorem dX0_mean_24 : decode cX0_mean 24 = .ok (.lconst 0, 1) := dk_9 (dk_at dksX0_mean_1 0 rfl rfl)
theorem dX0_mean_25 : decode cX0_mean 25 = .ok (.lstore_n 2, 1) := dk_65 (dk_at dksX0_mean_1 1 rfl rfl)
theorem dX0_mean_26 : decode cX0_mean 26 = .ok (.iconst 0, 1) := dk_3 (dk_at dksX0_mean_1 2 rfl rfl)
theorem dX0_mean_27 : decode cX0_mean 27 = .ok (.istore 4, 2) := dk_54 4 (dk_at dksX0_mean_1 3 rfl rfl)
theorem dX0_mean_29 : decode cX0_mean 29 = .ok (.iload 4, 2) := dk_21 4 (dk_at dksX0_mean_1 5 rfl rfl)
theorem dX0_mean_31 : decode cX0_mean 31 = .ok (.aload_n 0, 1) := dk_42 (dk_at dksX0_mean_1 7 rfl rfl)
theorem dX0_mean_32 : decode cX0_mean 32 = .ok (.getfield 25, 3) := dk_180 0 25 (dk_at dksX0_mean_1 8 rfl rfl)
theorem dX0_mean_35 : decode cX0_mean 35 = .ok (.iload_n 1, 1) := dk_27 (dk_at dksX0_mean_1 11 rfl rfl)
theorem dX0_mean_36 : decode cX0_mean 36 = .ok (.aaload, 1) := dk_50 (dk_at dksX0_mean_1 12 rfl rfl)
theorem dX0_mean_37 : decode cX0_mean 37 = .ok (.arraylength, 1) := dk_190 (dk_at dksX0_mean_1 13 rfl rfl)
theorem dX0_mean_38 : decode cX0_mean 38 = .ok (.if_icmp .ge 22, 3) := dk_162 0 22 (dk_at dksX0_mean_1 14 rfl rfl)
theorem dX0_mean_41 : decode cX0_mean 41 = .ok (.lload_n 2, 1) := dk_32 (dk_at dksX0_mean_1 17 rfl rfl)
theorem dX0_mean_42 : decode cX0_mean 42 = .ok (.aload_n 0, 1) := dk_42 (dk_at dksX0_mean_1 18 rfl rfl)
theorem dX0_mean_43 : decode cX0_mean 43 = .ok (.getfield 25, 3) := dk_180 0 25 (dk_at dksX0_mean_1 19 rfl rfl)
theorem dX0_mean_46 : decode cX0_mean 46 = .ok (.iload_n 1, 1) := dk_27 (dk_at dksX0_mean_1 22 rfl rfl)
theorem dX0_mean_47 : decode cX0_mean 47 = .ok (.aaload, 1) := dk_50 (dk_at dksX0_mean_1 23 rfl rfl)
theorem dX0_mean_48 : decode cX0_mean 48 = .ok (.iload 4, 2) := dk_21 4 (dk_at dksX0_mean_2 0 rfl rfl)
theorem dX0_mean_50 : decode cX0_mean 50 = .ok (.iaload, 1) := dk_46 (dk_at dksX0_mean_2 2 rfl rfl)
theorem dX0_mean_51 : decode cX0_mean 51 = .ok (.i2l, 1) := dk_133 (dk_at dksX0_mean_2 3 rfl rfl)
theorem dX0_mean_52 : decode cX0_mean 52 = .ok (.ladd, 1) := dk_97 (dk_at dksX0_mean_2 4 rfl rfl)
theorem dX0_mean_53 : decode cX0_mean 53 = .ok (.lstore_n 2, 1) := dk_65 (dk_at dksX0_mean_2 5 rfl rfl)
theorem dX0_mean_54 : decode cX0_mean 54 = .ok (.iinc 4 1, 3) := dk_132 4 1 (dk_at dksX0_mean_2 6 rfl rfl)
theorem dX0_mean_57 : decode cX0_mean 57 = .ok (.goto (-28), 3) := dk_167 255 228 (dk_at dksX0_mean_2 9 rfl rfl)
theorem dX0_mean_60 : decode cX0_mean 60 = .ok (.aload_n 0, 1) := dk_42 (dk_at dksX0_mean_2 12 rfl rfl)
theorem dX0_mean_61 : decode cX0_mean 61 = .ok (.lload_n 2, 1) := dk_32 (dk_at dksX0_mean_2 13 rfl rfl)
theorem dX0_mean_62 : decode cX0_mean 62 = .ok (.aload_n 0, 1) := dk_42 (dk_at dksX0_mean_2 14 rfl rfl)
theorem dX0_mean_63 : decode cX0_mean 63 = .ok (.getfield 25, 3) := dk_180 0 25 (dk_at dksX0_mean_2 15 rfl rfl)
theorem dX0_mean_66 : decode cX0_mean 66 = .ok (.iload_n 1, 1) := dk_27 (dk_at dksX0_mean_2 18 rfl rfl)
theorem dX0_mean_67 : decode cX0_mean 67 = .ok (.aaload, 1) := dk_50 (dk_at dksX0_mean_2 19 rfl rfl)
theorem dX0_mean_68 : decode cX0_mean 68 = .ok (.arraylength, 1) := dk_190 (dk_at dksX0_mean_2 20 rfl rfl)
theorem dX0_mean_69 : decode cX0_mean 69 = .ok (.i2l, 1) := dk_133 (dk_at dksX0_mean_2 21 rfl rfl)
theorem dX0_mean_70 : decode cX0_mean 70 = .ok (.ldiv, 1) := dk_109 (dk_at dksX0_mean_2 22 rfl rfl)
theorem dX0_mean_71 : decode cX0_mean 71 = .ok (.l2i, 1) := dk_136 (dk_at dksX0_mean_2 23 rfl rfl)
theorem dX0_mean_72 : decode cX0_mean 72 = .ok (.iconst 1, 1) := dk_4 (dk_at dksX0_mean_3 0 rfl rfl)
theorem dX0_mean_73 : decode cX0_mean 73 = .ok (.invokevirtual 79, 3) := dk_182 0 79 (dk_at dksX0_mean_3 1 rfl rfl)
theorem dX0_mean_76 : decode cX0_mean 76 = .ok (.ireturn, 1) := dk_172 (dk_at dksX0_mean_3 4 rfl rfl)
theorem dX0_mean_77 : decode cX0_mean 77 = .ok (.astore 4, 2) := dk_58 4 (dk_at dksX0_mean_3 5 rfl rfl)
theorem dX0_mean_79 : decode cX0_mean 79 = .ok (.aload_n 0, 1) := dk_42 (dk_at dksX0_mean_3 7 rfl rfl)
theorem dX0_mean_80 : decode cX0_mean 80 = .ok (.iconst 4, 1) := dk_7 (dk_at dksX0_mean_3 8 rfl rfl)
theorem dX0_mean_81 : decode cX0_mean 81 = .ok (.invokevirtual 75, 3) := dk_182 0 75 (dk_at dksX0_mean_3 9 rfl rfl)
theorem dX0_mean_84 : decode cX0_mean 84 = .ok (.ireturn, 1) := dk_172 (dk_at dksX0_mean_3 12 rfl rfl)
abbrev cX0_text : ByteArray := prog_1_method_18_code
def yX0_text : MethodName := ⟨RX0, "text", "(II)I"⟩
def dkwX0_text_2 : List UInt8 := [172, 78, 42, 8, 182, 0, 75, 172]
abbrev dktX0_text_2 : List UInt8 := dkwX0_text_2 ++ []
def dkwX0_text_1 : List UInt8 := [28, 162, 0, 15, 45, 21, 4, 16, 32, 84, 132, 4, 1, 167, 255, 241, 42, 180, 0, 31, 27, 45, 83, 28]
abbrev dktX0_text_1 : List UInt8 := dkwX0_text_1 ++ dktX0_text_2
def dkwX0_text_0 : List UInt8 := [27, 184, 0, 95, 153, 0, 9, 28, 16, 60, 164, 0, 5, 2, 172, 28, 188, 8, 78, 3, 54, 4, 21, 4]
abbrev dktX0_text_0 : List UInt8 := dkwX0_text_0 ++ dktX0_text_1
theorem dksX0_text_0 : cX0_text.data.toList.drop 0 = dktX0_text_0 := by decide +kernel
theorem dksX0_text_1 : cX0_text.data.toList.drop 24 = dktX0_text_1 := dk_seg dksX0_text_0 24 rfl rfl
theorem dksX0_text_2 : cX0_text.data.toList.drop 48 = dktX0_text_2 := dk_seg dksX0_text_1 24 rfl rfl
theorem dX0_text_0 : decode cX0_text 0 = .ok (.iload_n 1, 1) := dk_27 (dk_at dksX0_text_0 0 rfl rfl)
theorem dX0_text_1 : decode cX0_text 1 = .ok (.invokestatic 95, 3) := dk_184 0 95 (dk_at dksX0_text_0 1 rfl rfl)
theorem dX0_text_4 : decode cX0_text 4 = .ok (.ifCond .eq 9, 3) := dk_153 0 9 (dk_at dksX0_text_0 4 rfl rfl)
theorem dX0_text_7 : decode cX0_text 7 = .ok (.iload_n 2, 1) := dk_28 (dk_at dksX0_text_0 7 rfl rfl)
theorem dX0_text_8 : decode cX0_text 8 = .ok (.bipush 60, 2) := dk_16 60 (dk_at dksX0_text_0 8 rfl rfl)
theorem dX0_text_10 : decode cX0_text 10 = .ok (.if_icmp .le 5, 3) := dk_164 0 5 (dk_at dksX0_text_0 10 rfl rfl)
theorem dX0_text_13 : decode cX0_text 13 = .ok (.iconst (-1), 1) := dk_2 (dk_at dksX0_text_0 13 rfl rfl)
theorem dX0_text_14 : decode cX0_text 14 = .ok (.ireturn, 1) := dk_172 (dk_at dksX0_text_0 14 rfl rfl)
theorem dX0_text_15 : decode cX0_text 15 = .ok (.iload_n 2, 1) := dk_28 (dk_at dksX0_text_0 15 rfl rfl)
theorem dX0_text_16 : decode cX0_text 16 = .ok (.newarray .byte, 2) := dk_188_8 (dk_at dksX0_text_0 16 rfl rfl)
theorem dX0_text_18 : decode cX0_text 18 = .ok (.astore_n 3, 1) := dk_78 (dk_at dksX0_text_0 18 rfl rfl)
theorem dX0_text_19 : decode cX0_text 19 = .ok (.iconst 0, 1) := dk_3 (dk_at dksX0_text_0 19 rfl rfl)
theorem dX0_text_20 : decode cX0_text 20 = .ok (.istore 4, 2) := dk_54 4 (dk_at dksX0_text_0 20 rfl rfl)
theorem dX0_text_22 : decode cX0_text 22 = .ok (.iload 4, 2) := dk_21 4 (dk_at dksX0_text_0 22 rfl rfl)
theorem dX0_text_24 : decode cX0_text 24 = .ok (.iload_n 2, 1) := dk_28 (dk_at dksX0_text_1 0 rfl rfl)
theorem dX0_text_25 : decode cX0_text 25 = .ok (.if_icmp .ge 15, 3) := dk_162 0 15 (dk_at dksX0_text_1 1 rfl rfl)
theorem dX0_text_28 : decode cX0_text 28 = .ok (.aload_n 3, 1) := dk_45 (dk_at dksX0_text_1 4 rfl rfl)
theorem dX0_text_29 : decode cX0_text 29 = .ok (.iload 4, 2) := dk_21 4 (dk_at dksX0_text_1 5 rfl rfl)
theorem dX0_text_31 : decode cX0_text 31 = .ok (.bipush 32, 2) := dk_16 32 (dk_at dksX0_text_1 7 rfl rfl)
theorem dX0_text_33 : decode cX0_text 33 = .ok (.bastore, 1) := dk_84 (dk_at dksX0_text_1 9 rfl rfl)
theorem dX0_text_34 : decode cX0_text 34 = .ok (.iinc 4 1, 3) := dk_132 4 1 (dk_at dksX0_text_1 10 rfl rfl)
theorem dX0_text_37 : decode cX0_text 37 = .ok (.goto (-15), 3) := dk_167 255 241 (dk_at dksX0_text_1 13 rfl rfl)
theorem dX0_text_40 : decode cX0_text 40 = .ok (.aload_n 0, 1) := dk_42 (dk_at dksX0_text_1 16 rfl rfl)
theorem dX0_text_41 : decode cX0_text 41 = .ok (.getfield 31, 3) := dk_180 0 31 (dk_at dksX0_text_1 17 rfl rfl)
theorem dX0_text_44 : decode cX0_text 44 = .ok (.iload_n 1, 1) := dk_27 (dk_at dksX0_text_1 20 rfl rfl)
theorem dX0_text_45 : decode cX0_text 45 = .ok (.aload_n 3, 1) := dk_45 (dk_at dksX0_text_1 21 rfl rfl)
theorem dX0_text_46 : decode cX0_text 46 = .ok (.aastore, 1) := dk_83 (dk_at dksX0_text_1 22 rfl rfl)
theorem dX0_text_47 : decode cX0_text 47 = .ok (.iload_n 2, 1) := dk_28 (dk_at dksX0_text_1 23 rfl rfl)
theorem dX0_text_48 : decode cX0_text 48 = .ok (.ireturn, 1) := dk_172 (dk_at dksX0_text_2 0 rfl rfl)
theorem dX0_text_49 : decode cX0_text 49 = .ok (.astore_n 3, 1) := dk_78 (dk_at dksX0_text_2 1 rfl rfl)
theorem dX0_text_50 : decode cX0_text 50 = .ok (.aload_n 0, 1) := dk_42 (dk_at dksX0_text_2 2 rfl rfl)
theorem dX0_text_51 : decode cX0_text 51 = .ok (.iconst 5, 1) := dk_8 (dk_at dksX0_text_2 3 rfl rfl)
theorem dX0_text_52 : decode cX0_text 52 = .ok (.invokevirtual 75, 3) := dk_182 0 75 (dk_at dksX0_text_2 4 rfl rfl)
theorem dX0_text_55 : decode cX0_text 55 = .ok (.ireturn, 1) := dk_172 (dk_at dksX0_text_2 7 rfl rfl)
abbrev cX0_isText : ByteArray := prog_1_method_17_code
def yX0_isText : MethodName := ⟨RX0, "isText", "(I)Z"⟩
def dkwX0_isText_0 : List UInt8 := [26, 3, 6, 184, 0, 65, 172]
abbrev dktX0_isText_0 : List UInt8 := dkwX0_isText_0 ++ []
theorem dksX0_isText_0 : cX0_isText.data.toList.drop 0 = dktX0_isText_0 := by decide +kernel
theorem dX0_isText_0 : decode cX0_isText 0 = .ok (.iload_n 0, 1) := dk_26 (dk_at dksX0_isText_0 0 rfl rfl)
theorem dX0_isText_1 : decode cX0_isText 1 = .ok (.iconst 0, 1) := dk_3 (dk_at dksX0_isText_0 1 rfl rfl)
theorem dX0_isText_2 : decode cX0_isText 2 = .ok (.iconst 3, 1) := dk_6 (dk_at dksX0_isText_0 2 rfl rfl)
theorem dX0_isText_3 : decode cX0_isText 3 = .ok (.invokestatic 65, 3) := dk_184 0 65 (dk_at dksX0_isText_0 3 rfl rfl)
theorem dX0_isText_6 : decode cX0_isText 6 = .ok (.ireturn, 1) := dk_172 (dk_at dksX0_isText_0 6 rfl rfl)
abbrev cX0_put : ByteArray := prog_1_method_19_code
def yX0_put : MethodName := ⟨RX0, "put", "(III)I"⟩
def dkwX0_put_2 : List UInt8 := [182, 0, 75, 172]
abbrev dktX0_put_2 : List UInt8 := dkwX0_put_2 ++ []
def dkwX0_put_1 : List UInt8 := [50, 28, 29, 145, 84, 17, 3, 232, 21, 4, 96, 172, 58, 4, 42, 4, 182, 0, 75, 172, 58, 4, 42, 5]
abbrev dktX0_put_1 : List UInt8 := dkwX0_put_1 ++ dktX0_put_2
def dkwX0_put_0 : List UInt8 := [27, 184, 0, 95, 154, 0, 5, 2, 172, 42, 180, 0, 31, 27, 50, 28, 51, 54, 4, 42, 180, 0, 31, 27]
abbrev dktX0_put_0 : List UInt8 := dkwX0_put_0 ++ dktX0_put_1
theorem dksX0_put_0 : cX0_put.data.toList.drop 0 = dktX0_put_0 := by decide +kernel
theorem dksX0_put_1 : cX0_put.data.toList.drop 24 = dktX0_put_1 := dk_seg dksX0_put_0 24 rfl rfl
theorem dksX0_put_2 : cX0_put.data.toList.drop 48 = dktX0_put_2 := dk_seg dksX0_put_1 24 rfl rfl
theorem dX0_put_0 : decode cX0_put 0 = .ok (.iload_n 1, 1) := dk_27 (dk_at dksX0_put_0 0 rfl rfl)
theorem dX0_put_1 : decode cX0_put 1 = .ok (.invokestatic 95, 3) := dk_184 0 95 (dk_at dksX0_put_0 1 rfl rfl)
theorem dX0_put_4 : decode cX0_put 4 = .ok (.ifCond .ne 5, 3) := dk_154 0 5 (dk_at dksX0_put_0 4 rfl rfl)
theorem dX0_put_7 : decode cX0_put 7 = .ok (.iconst (-1), 1) := dk_2 (dk_at dksX0_put_0 7 rfl rfl)
theorem dX0_put_8 : decode cX0_put 8 = .ok (.ireturn, 1) := dk_172 (dk_at dksX0_put_0 8 rfl rfl)
theorem dX0_put_9 : decode cX0_put 9 = .ok (.aload_n 0, 1) := dk_42 (dk_at dksX0_put_0 9 rfl rfl)
theorem dX0_put_10 : decode cX0_put 10 = .ok (.getfield 31, 3) := dk_180 0 31 (dk_at dksX0_put_0 10 rfl rfl)
theorem dX0_put_13 : decode cX0_put 13 = .ok (.iload_n 1, 1) := dk_27 (dk_at dksX0_put_0 13 rfl rfl)
theorem dX0_put_14 : decode cX0_put 14 = .ok (.aaload, 1) := dk_50 (dk_at dksX0_put_0 14 rfl rfl)
theorem dX0_put_15 : decode cX0_put 15 = .ok (.iload_n 2, 1) := dk_28 (dk_at dksX0_put_0 15 rfl rfl)
theorem dX0_put_16 : decode cX0_put 16 = .ok (.baload, 1) := dk_51 (dk_at dksX0_put_0 16 rfl rfl)
theorem dX0_put_17 : decode cX0_put 17 = .ok (.istore 4, 2) := dk_54 4 (dk_at dksX0_put_0 17 rfl rfl)
theorem dX0_put_19 : decode cX0_put 19 = .ok (.aload_n 0, 1) := dk_42 (dk_at dksX0_put_0 19 rfl rfl)
theorem dX0_put_20 : decode cX0_put 20 = .ok (.getfield 31, 3) := dk_180 0 31 (dk_at dksX0_put_0 20 rfl rfl)
theorem dX0_put_23 : decode cX0_put 23 = .ok (.iload_n 1, 1) := dk_27 (dk_at dksX0_put_0 23 rfl rfl)
theorem dX0_put_24 : decode cX0_put 24 = .ok (.aaload, 1) := dk_50 (dk_at dksX0_put_1 0 rfl rfl)
theorem dX0_put_25 : decode cX0_put 25 = .ok (.iload_n 2, 1) := dk_28 (dk_at dksX0_put_1 1 rfl rfl)
theorem dX0_put_26 : decode cX0_put 26 = .ok (.iload_n 3, 1) := dk_29 (dk_at dksX0_put_1 2 rfl rfl)
theorem dX0_put_27 : decode cX0_put 27 = .ok (.i2b, 1) := dk_145 (dk_at dksX0_put_1 3 rfl rfl)
theorem dX0_put_28 : decode cX0_put 28 = .ok (.bastore, 1) := dk_84 (dk_at dksX0_put_1 4 rfl rfl)
theorem dX0_put_29 : decode cX0_put 29 = .ok (.sipush 1000, 3) := dk_17 3 232 (dk_at dksX0_put_1 5 rfl rfl)
theorem dX0_put_32 : decode cX0_put 32 = .ok (.iload 4, 2) := dk_21 4 (dk_at dksX0_put_1 8 rfl rfl)
theorem dX0_put_34 : decode cX0_put 34 = .ok (.iadd, 1) := dk_96 (dk_at dksX0_put_1 10 rfl rfl)
theorem dX0_put_35 : decode cX0_put 35 = .ok (.ireturn, 1) := dk_172 (dk_at dksX0_put_1 11 rfl rfl)
theorem dX0_put_36 : decode cX0_put 36 = .ok (.astore 4, 2) := dk_58 4 (dk_at dksX0_put_1 12 rfl rfl)
theorem dX0_put_38 : decode cX0_put 38 = .ok (.aload_n 0, 1) := dk_42 (dk_at dksX0_put_1 14 rfl rfl)
theorem dX0_put_39 : decode cX0_put 39 = .ok (.iconst 1, 1) := dk_4 (dk_at dksX0_put_1 15 rfl rfl)
theorem dX0_put_40 : decode cX0_put 40 = .ok (.invokevirtual 75, 3) := dk_182 0 75 (dk_at dksX0_put_1 16 rfl rfl)
theorem dX0_put_43 : decode cX0_put 43 = .ok (.ireturn, 1) := dk_172 (dk_at dksX0_put_1 19 rfl rfl)
theorem dX0_put_44 : decode cX0_put 44 = .ok (.astore 4, 2) := dk_58 4 (dk_at dksX0_put_1 20 rfl rfl)
theorem dX0_put_46 : decode cX0_put 46 = .ok (.aload_n 0, 1) := dk_42 (dk_at dksX0_put_1 22 rfl rfl)
theorem dX0_put_47 : decode cX0_put 47 = .ok (.iconst 2, 1) := dk_5 (dk_at dksX0_put_1 23 rfl rfl)
theorem dX0_put_48 : decode cX0_put 48 = .ok (.invokevirtual 75, 3) := dk_182 0 75 (dk_at dksX0_put_2 0 rfl rfl)
theorem dX0_put_51 : decode cX0_put 51 = .ok (.ireturn, 1) := dk_172 (dk_at dksX0_put_2 3 rfl rfl)
abbrev cX0_fault : ByteArray := prog_1_method_38_code
def yX0_fault : MethodName := ⟨RX0, "fault", "(I)I"⟩
def dkwX0_fault_1 : List UInt8 := [167, 0, 13, 42, 42, 180, 0, 31, 27, 50, 182, 0, 195, 172]
abbrev dktX0_fault_1 : List UInt8 := dkwX0_fault_1 ++ []
def dkwX0_fault_0 : List UInt8 := [27, 184, 0, 95, 154, 0, 5, 2, 172, 42, 180, 0, 31, 27, 50, 199, 0, 11, 42, 4, 182, 0, 75]
abbrev dktX0_fault_0 : List UInt8 := dkwX0_fault_0 ++ dktX0_fault_1
theorem dksX0_fault_0 : cX0_fault.data.toList.drop 0 = dktX0_fault_0 := by decide +kernel
theorem dksX0_fault_1 : cX0_fault.data.toList.drop 23 = dktX0_fault_1 := dk_seg dksX0_fault_0 23 rfl rfl
theorem dX0_fault_0 : decode cX0_fault 0 = .ok (.iload_n 1, 1) := dk_27 (dk_at dksX0_fault_0 0 rfl rfl)
theorem dX0_fault_1 : decode cX0_fault 1 = .ok (.invokestatic 95, 3) := dk_184 0 95 (dk_at dksX0_fault_0 1 rfl rfl)
theorem dX0_fault_4 : decode cX0_fault 4 = .ok (.ifCond .ne 5, 3) := dk_154 0 5 (dk_at dksX0_fault_0 4 rfl rfl)
theorem dX0_fault_7 : decode cX0_fault 7 = .ok (.iconst (-1), 1) := dk_2 (dk_at dksX0_fault_0 7 rfl rfl)
theorem dX0_fault_8 : decode cX0_fault 8 = .ok (.ireturn, 1) := dk_172 (dk_at dksX0_fault_0 8 rfl rfl)
theorem dX0_fault_9 : decode cX0_fault 9 = .ok (.aload_n 0, 1) := dk_42 (dk_at dksX0_fault_0 9 rfl rfl)
theorem dX0_fault_10 : decode cX0_fault 10 = .ok (.getfield 31, 3) := dk_180 0 31 (dk_at dksX0_fault_0 10 rfl rfl)
theorem dX0_fault_13 : decode cX0_fault 13 = .ok (.iload_n 1, 1) := dk_27 (dk_at dksX0_fault_0 13 rfl rfl)
theorem dX0_fault_14 : decode cX0_fault 14 = .ok (.aaload, 1) := dk_50 (dk_at dksX0_fault_0 14 rfl rfl)
theorem dX0_fault_15 : decode cX0_fault 15 = .ok (.ifnonnull 11, 3) := dk_199 0 11 (dk_at dksX0_fault_0 15 rfl rfl)
theorem dX0_fault_18 : decode cX0_fault 18 = .ok (.aload_n 0, 1) := dk_42 (dk_at dksX0_fault_0 18 rfl rfl)
theorem dX0_fault_19 : decode cX0_fault 19 = .ok (.iconst 1, 1) := dk_4 (dk_at dksX0_fault_0 19 rfl rfl)
theorem dX0_fault_20 : decode cX0_fault 20 = .ok (.invokevirtual 75, 3) := dk_182 0 75 (dk_at dksX0_fault_0 20 rfl rfl)
theorem dX0_fault_23 : decode cX0_fault 23 = .ok (.goto 13, 3) := dk_167 0 13 (dk_at dksX0_fault_1 0 rfl rfl)
theorem dX0_fault_26 : decode cX0_fault 26 = .ok (.aload_n 0, 1) := dk_42 (dk_at dksX0_fault_1 3 rfl rfl)
theorem dX0_fault_27 : decode cX0_fault 27 = .ok (.aload_n 0, 1) := dk_42 (dk_at dksX0_fault_1 4 rfl rfl)
theorem dX0_fault_28 : decode cX0_fault 28 = .ok (.getfield 31, 3) := dk_180 0 31 (dk_at dksX0_fault_1 5 rfl rfl)
theorem dX0_fault_31 : decode cX0_fault 31 = .ok (.iload_n 1, 1) := dk_27 (dk_at dksX0_fault_1 8 rfl rfl)
theorem dX0_fault_32 : decode cX0_fault 32 = .ok (.aaload, 1) := dk_50 (dk_at dksX0_fault_1 9 rfl rfl)
theorem dX0_fault_33 : decode cX0_fault 33 = .ok (.invokevirtual 195, 3) := dk_182 0 195 (dk_at dksX0_fault_1 10 rfl rfl)
theorem dX0_fault_36 : decode cX0_fault 36 = .ok (.ireturn, 1) := dk_172 (dk_at dksX0_fault_1 13 rfl rfl)
abbrev cX0_read : ByteArray := prog_1_method_37_code
def yX0_read : MethodName := ⟨RX0, "read", "([B)I"⟩
def dkwX0_read_4 : List UInt8 := [16, 247, 172]
abbrev dktX0_read_4 : List UInt8 := dkwX0_read_4 ++ []
def dkwX0_read_3 : List UInt8 := [43, 182, 0, 192, 154, 255, 198, 42, 180, 0, 162, 172, 42, 180, 0, 182, 154, 0, 8, 43, 190, 167, 0, 5]
abbrev dktX0_read_3 : List UInt8 := dkwX0_read_3 ++ dktX0_read_4
def dkwX0_read_2 : List UInt8 := [167, 255, 226, 42, 180, 0, 176, 16, 247, 160, 0, 14, 42, 43, 182, 0, 188, 153, 0, 14, 167, 255, 206, 42]
abbrev dktX0_read_2 : List UInt8 := dkwX0_read_2 ++ dktX0_read_3
def dkwX0_read_1 : List UInt8 := [162, 0, 60, 43, 42, 180, 0, 162, 51, 16, 32, 160, 0, 16, 42, 89, 180, 0, 162, 4, 96, 181, 0, 162]
abbrev dktX0_read_1 : List UInt8 := dkwX0_read_1 ++ dktX0_read_2
def dkwX0_read_0 : List UInt8 := [42, 3, 181, 0, 162, 42, 3, 181, 0, 182, 42, 16, 247, 181, 0, 176, 42, 180, 0, 162, 43, 190]
abbrev dktX0_read_0 : List UInt8 := dkwX0_read_0 ++ dktX0_read_1
theorem dksX0_read_0 : cX0_read.data.toList.drop 0 = dktX0_read_0 := by decide +kernel
theorem dksX0_read_1 : cX0_read.data.toList.drop 22 = dktX0_read_1 := dk_seg dksX0_read_0 22 rfl rfl
theorem dksX0_read_2 : cX0_read.data.toList.drop 46 = dktX0_read_2 := dk_seg dksX0_read_1 24 rfl rfl
theorem dksX0_read_3 : cX0_read.data.toList.drop 70 = dktX0_read_3 := dk_seg dksX0_read_2 24 rfl rfl
theorem dksX0_read_4 : cX0_read.data.toList.drop 94 = dktX0_read_4 := dk_seg dksX0_read_3 24 rfl rfl
theorem dX0_read_0 : decode cX0_read 0 = .ok (.aload_n 0, 1) := dk_42 (dk_at dksX0_read_0 0 rfl rfl)
theorem dX0_read_1 : decode cX0_read 1 = .ok (.iconst 0, 1) := dk_3 (dk_at dksX0_read_0 1 rfl rfl)
theorem dX0_read_2 : decode cX0_read 2 = .ok (.putfield 162, 3) := dk_181 0 162 (dk_at dksX0_read_0 2 rfl rfl)
theorem dX0_read_5 : decode cX0_read 5 = .ok (.aload_n 0, 1) := dk_42 (dk_at dksX0_read_0 5 rfl rfl)
theorem dX0_read_6 : decode cX0_read 6 = .ok (.iconst 0, 1) := dk_3 (dk_at dksX0_read_0 6 rfl rfl)
theorem dX0_read_7 : decode cX0_read 7 = .ok (.putfield 182, 3) := dk_181 0 182 (dk_at dksX0_read_0 7 rfl rfl)
theorem dX0_read_10 : decode cX0_read 10 = .ok (.aload_n 0, 1) := dk_42 (dk_at dksX0_read_0 10 rfl rfl)
theorem dX0_read_11 : decode cX0_read 11 = .ok (.bipush (-9), 2) := dk_16 247 (dk_at dksX0_read_0 11 rfl rfl)
theorem dX0_read_13 : decode cX0_read 13 = .ok (.putfield 176, 3) := dk_181 0 176 (dk_at dksX0_read_0 13 rfl rfl)
theorem dX0_read_16 : decode cX0_read 16 = .ok (.aload_n 0, 1) := dk_42 (dk_at dksX0_read_0 16 rfl rfl)
theorem dX0_read_17 : decode cX0_read 17 = .ok (.getfield 162, 3) := dk_180 0 162 (dk_at dksX0_read_0 17 rfl rfl)
theorem dX0_read_20 : decode cX0_read 20 = .ok (.aload_n 1, 1) := dk_43 (dk_at dksX0_read_0 20 rfl rfl)
theorem dX0_read_21 : decode cX0_read 21 = .ok (.arraylength, 1) := dk_190 (dk_at dksX0_read_0 21 rfl rfl)
theorem dX0_read_22 : decode cX0_read 22 = .ok (.if_icmp .ge 60, 3) := dk_162 0 60 (dk_at dksX0_read_1 0 rfl rfl)
theorem dX0_read_25 : decode cX0_read 25 = .ok (.aload_n 1, 1) := dk_43 (dk_at dksX0_read_1 3 rfl rfl)
theorem dX0_read_26 : decode cX0_read 26 = .ok (.aload_n 0, 1) := dk_42 (dk_at dksX0_read_1 4 rfl rfl)
theorem dX0_read_27 : decode cX0_read 27 = .ok (.getfield 162, 3) := dk_180 0 162 (dk_at dksX0_read_1 5 rfl rfl)
theorem dX0_read_30 : decode cX0_read 30 = .ok (.baload, 1) := dk_51 (dk_at dksX0_read_1 8 rfl rfl)
theorem dX0_read_31 : decode cX0_read 31 = .ok (.bipush 32, 2) := dk_16 32 (dk_at dksX0_read_1 9 rfl rfl)
theorem dX0_read_33 : decode cX0_read 33 = .ok (.if_icmp .ne 16, 3) := dk_160 0 16 (dk_at dksX0_read_1 11 rfl rfl)
theorem dX0_read_36 : decode cX0_read 36 = .ok (.aload_n 0, 1) := dk_42 (dk_at dksX0_read_1 14 rfl rfl)
theorem dX0_read_37 : decode cX0_read 37 = .ok (.dup, 1) := dk_89 (dk_at dksX0_read_1 15 rfl rfl)
theorem dX0_read_38 : decode cX0_read 38 = .ok (.getfield 162, 3) := dk_180 0 162 (dk_at dksX0_read_1 16 rfl rfl)
theorem dX0_read_41 : decode cX0_read 41 = .ok (.iconst 1, 1) := dk_4 (dk_at dksX0_read_1 19 rfl rfl)
theorem dX0_read_42 : decode cX0_read 42 = .ok (.iadd, 1) := dk_96 (dk_at dksX0_read_1 20 rfl rfl)
theorem dX0_read_43 : decode cX0_read 43 = .ok (.putfield 162, 3) := dk_181 0 162 (dk_at dksX0_read_1 21 rfl rfl)
theorem dX0_read_46 : decode cX0_read 46 = .ok (.goto (-30), 3) := dk_167 255 226 (dk_at dksX0_read_2 0 rfl rfl)
theorem dX0_read_49 : decode cX0_read 49 = .ok (.aload_n 0, 1) := dk_42 (dk_at dksX0_read_2 3 rfl rfl)
theorem dX0_read_50 : decode cX0_read 50 = .ok (.getfield 176, 3) := dk_180 0 176 (dk_at dksX0_read_2 4 rfl rfl)
theorem dX0_read_53 : decode cX0_read 53 = .ok (.bipush (-9), 2) := dk_16 247 (dk_at dksX0_read_2 7 rfl rfl)
theorem dX0_read_55 : decode cX0_read 55 = .ok (.if_icmp .ne 14, 3) := dk_160 0 14 (dk_at dksX0_read_2 9 rfl rfl)
theorem dX0_read_58 : decode cX0_read 58 = .ok (.aload_n 0, 1) := dk_42 (dk_at dksX0_read_2 12 rfl rfl)
theorem dX0_read_59 : decode cX0_read 59 = .ok (.aload_n 1, 1) := dk_43 (dk_at dksX0_read_2 13 rfl rfl)
theorem dX0_read_60 : decode cX0_read 60 = .ok (.invokevirtual 188, 3) := dk_182 0 188 (dk_at dksX0_read_2 14 rfl rfl)
theorem dX0_read_63 : decode cX0_read 63 = .ok (.ifCond .eq 14, 3) := dk_153 0 14 (dk_at dksX0_read_2 17 rfl rfl)
theorem dX0_read_66 : decode cX0_read 66 = .ok (.goto (-50), 3) := dk_167 255 206 (dk_at dksX0_read_2 20 rfl rfl)
theorem dX0_read_69 : decode cX0_read 69 = .ok (.aload_n 0, 1) := dk_42 (dk_at dksX0_read_2 23 rfl rfl)
theorem dX0_read_70 : decode cX0_read 70 = .ok (.aload_n 1, 1) := dk_43 (dk_at dksX0_read_3 0 rfl rfl)
theorem dX0_read_71 : decode cX0_read 71 = .ok (.invokevirtual 192, 3) := dk_182 0 192 (dk_at dksX0_read_3 1 rfl rfl)
theorem dX0_read_74 : decode cX0_read 74 = .ok (.ifCond .ne (-58), 3) := dk_154 255 198 (dk_at dksX0_read_3 4 rfl rfl)
theorem dX0_read_77 : decode cX0_read 77 = .ok (.aload_n 0, 1) := dk_42 (dk_at dksX0_read_3 7 rfl rfl)
theorem dX0_read_78 : decode cX0_read 78 = .ok (.getfield 162, 3) := dk_180 0 162 (dk_at dksX0_read_3 8 rfl rfl)
theorem dX0_read_81 : decode cX0_read 81 = .ok (.ireturn, 1) := dk_172 (dk_at dksX0_read_3 11 rfl rfl)
theorem dX0_read_82 : decode cX0_read 82 = .ok (.aload_n 0, 1) := dk_42 (dk_at dksX0_read_3 12 rfl rfl)
theorem dX0_read_83 : decode cX0_read 83 = .ok (.getfield 182, 3) := dk_180 0 182 (dk_at dksX0_read_3 13 rfl rfl)
theorem dX0_read_86 : decode cX0_read 86 = .ok (.ifCond .ne 8, 3) := dk_154 0 8 (dk_at dksX0_read_3 16 rfl rfl)
theorem dX0_read_89 : decode cX0_read 89 = .ok (.aload_n 1, 1) := dk_43 (dk_at dksX0_read_3 19 rfl rfl)
theorem dX0_read_90 : decode cX0_read 90 = .ok (.arraylength, 1) := dk_190 (dk_at dksX0_read_3 20 rfl rfl)
theorem dX0_read_91 : decode cX0_read 91 = .ok (.goto 5, 3) := dk_167 0 5 (dk_at dksX0_read_3 21 rfl rfl)
theorem dX0_read_94 : decode cX0_read 94 = .ok (.bipush (-9), 2) := dk_16 247 (dk_at dksX0_read_4 0 rfl rfl)
theorem dX0_read_96 : decode cX0_read 96 = .ok (.ireturn, 1) := dk_172 (dk_at dksX0_read_4 2 rfl rfl)
abbrev cX0_readHead : ByteArray := prog_1_method_35_code
def yX0_readHead : MethodName := ⟨RX0, "readHead", "([B)Z"⟩
def dkwX0_readHead_2 : List UInt8 := [167, 0, 4, 3, 172]
abbrev dktX0_readHead_2 : List UInt8 := dkwX0_readHead_2 ++ []
def dkwX0_readHead_1 : List UInt8 := [181, 0, 162, 42, 42, 43, 182, 0, 169, 181, 0, 176, 42, 180, 0, 176, 16, 247, 159, 0, 7, 4]
abbrev dktX0_readHead_1 : List UInt8 := dkwX0_readHead_1 ++ dktX0_readHead_2
def dkwX0_readHead_0 : List UInt8 := [43, 42, 180, 0, 162, 184, 0, 165, 16, 102, 159, 0, 5, 3, 172, 42, 89, 180, 0, 162, 4, 96]
abbrev dktX0_readHead_0 : List UInt8 := dkwX0_readHead_0 ++ dktX0_readHead_1
theorem dksX0_readHead_0 : cX0_readHead.data.toList.drop 0 = dktX0_readHead_0 := by decide +kernel
theorem dksX0_readHead_1 : cX0_readHead.data.toList.drop 22 = dktX0_readHead_1 := dk_seg dksX0_readHead_0 22 rfl rfl
theorem dksX0_readHead_2 : cX0_readHead.data.toList.drop 44 = dktX0_readHead_2 := dk_seg dksX0_readHead_1 22 rfl rfl
theorem dX0_readHead_0 : decode cX0_readHead 0 = .ok (.aload_n 1, 1) := dk_43 (dk_at dksX0_readHead_0 0 rfl rfl)
theorem dX0_readHead_1 : decode cX0_readHead 1 = .ok (.aload_n 0, 1) := dk_42 (dk_at dksX0_readHead_0 1 rfl rfl)
theorem dX0_readHead_2 : decode cX0_readHead 2 = .ok (.getfield 162, 3) := dk_180 0 162 (dk_at dksX0_readHead_0 2 rfl rfl)
theorem dX0_readHead_5 : decode cX0_readHead 5 = .ok (.invokestatic 165, 3) := dk_184 0 165 (dk_at dksX0_readHead_0 5 rfl rfl)
theorem dX0_readHead_8 : decode cX0_readHead 8 = .ok (.bipush 102, 2) := dk_16 102 (dk_at dksX0_readHead_0 8 rfl rfl)
theorem dX0_readHead_10 : decode cX0_readHead 10 = .ok (.if_icmp .eq 5, 3) := dk_159 0 5 (dk_at dksX0_readHead_0 10 rfl rfl)
theorem dX0_readHead_13 : decode cX0_readHead 13 = .ok (.iconst 0, 1) := dk_3 (dk_at dksX0_readHead_0 13 rfl rfl)
theorem dX0_readHead_14 : decode cX0_readHead 14 = .ok (.ireturn, 1) := dk_172 (dk_at dksX0_readHead_0 14 rfl rfl)
theorem dX0_readHead_15 : decode cX0_readHead 15 = .ok (.aload_n 0, 1) := dk_42 (dk_at dksX0_readHead_0 15 rfl rfl)
theorem dX0_readHead_16 : decode cX0_readHead 16 = .ok (.dup, 1) := dk_89 (dk_at dksX0_readHead_0 16 rfl rfl)
theorem dX0_readHead_17 : decode cX0_readHead 17 = .ok (.getfield 162, 3) := dk_180 0 162 (dk_at dksX0_readHead_0 17 rfl rfl)
theorem dX0_readHead_20 : decode cX0_readHead 20 = .ok (.iconst 1, 1) := dk_4 (dk_at dksX0_readHead_0 20 rfl rfl)
theorem dX0_readHead_21 : decode cX0_readHead 21 = .ok (.iadd, 1) := dk_96 (dk_at dksX0_readHead_0 21 rfl rfl)
theorem dX0_readHead_22 : decode cX0_readHead 22 = .ok (.putfield 162, 3) := dk_181 0 162 (dk_at dksX0_readHead_1 0 rfl rfl)
theorem dX0_readHead_25 : decode cX0_readHead 25 = .ok (.aload_n 0, 1) := dk_42 (dk_at dksX0_readHead_1 3 rfl rfl)
theorem dX0_readHead_26 : decode cX0_readHead 26 = .ok (.aload_n 0, 1) := dk_42 (dk_at dksX0_readHead_1 4 rfl rfl)
theorem dX0_readHead_27 : decode cX0_readHead 27 = .ok (.aload_n 1, 1) := dk_43 (dk_at dksX0_readHead_1 5 rfl rfl)
theorem dX0_readHead_28 : decode cX0_readHead 28 = .ok (.invokevirtual 169, 3) := dk_182 0 169 (dk_at dksX0_readHead_1 6 rfl rfl)
theorem dX0_readHead_31 : decode cX0_readHead 31 = .ok (.putfield 176, 3) := dk_181 0 176 (dk_at dksX0_readHead_1 9 rfl rfl)
theorem dX0_readHead_34 : decode cX0_readHead 34 = .ok (.aload_n 0, 1) := dk_42 (dk_at dksX0_readHead_1 12 rfl rfl)
theorem dX0_readHead_35 : decode cX0_readHead 35 = .ok (.getfield 176, 3) := dk_180 0 176 (dk_at dksX0_readHead_1 13 rfl rfl)
theorem dX0_readHead_38 : decode cX0_readHead 38 = .ok (.bipush (-9), 2) := dk_16 247 (dk_at dksX0_readHead_1 16 rfl rfl)
theorem dX0_readHead_40 : decode cX0_readHead 40 = .ok (.if_icmp .eq 7, 3) := dk_159 0 7 (dk_at dksX0_readHead_1 18 rfl rfl)
theorem dX0_readHead_43 : decode cX0_readHead 43 = .ok (.iconst 1, 1) := dk_4 (dk_at dksX0_readHead_1 21 rfl rfl)
theorem dX0_readHead_44 : decode cX0_readHead 44 = .ok (.goto 4, 3) := dk_167 0 4 (dk_at dksX0_readHead_2 0 rfl rfl)
theorem dX0_readHead_47 : decode cX0_readHead 47 = .ok (.iconst 0, 1) := dk_3 (dk_at dksX0_readHead_2 3 rfl rfl)
theorem dX0_readHead_48 : decode cX0_readHead 48 = .ok (.ireturn, 1) := dk_172 (dk_at dksX0_readHead_2 4 rfl rfl)
abbrev cX0_byteAt : ByteArray := prog_1_method_31_code
def yX0_byteAt : MethodName := ⟨RX0, "byteAt", "([BI)I"⟩
def dkwX0_byteAt_0 : List UInt8 := [27, 42, 190, 162, 0, 9, 42, 27, 51, 167, 0, 4, 3, 172]
abbrev dktX0_byteAt_0 : List UInt8 := dkwX0_byteAt_0 ++ []
theorem dksX0_byteAt_0 : cX0_byteAt.data.toList.drop 0 = dktX0_byteAt_0 := by decide +kernel
theorem dX0_byteAt_0 : decode cX0_byteAt 0 = .ok (.iload_n 1, 1) := dk_27 (dk_at dksX0_byteAt_0 0 rfl rfl)
theorem dX0_byteAt_1 : decode cX0_byteAt 1 = .ok (.aload_n 0, 1) := dk_42 (dk_at dksX0_byteAt_0 1 rfl rfl)
theorem dX0_byteAt_2 : decode cX0_byteAt 2 = .ok (.arraylength, 1) := dk_190 (dk_at dksX0_byteAt_0 2 rfl rfl)
theorem dX0_byteAt_3 : decode cX0_byteAt 3 = .ok (.if_icmp .ge 9, 3) := dk_162 0 9 (dk_at dksX0_byteAt_0 3 rfl rfl)
theorem dX0_byteAt_6 : decode cX0_byteAt 6 = .ok (.aload_n 0, 1) := dk_42 (dk_at dksX0_byteAt_0 6 rfl rfl)
theorem dX0_byteAt_7 : decode cX0_byteAt 7 = .ok (.iload_n 1, 1) := dk_27 (dk_at dksX0_byteAt_0 7 rfl rfl)
theorem dX0_byteAt_8 : decode cX0_byteAt 8 = .ok (.baload, 1) := dk_51 (dk_at dksX0_byteAt_0 8 rfl rfl)
theorem dX0_byteAt_9 : decode cX0_byteAt 9 = .ok (.goto 4, 3) := dk_167 0 4 (dk_at dksX0_byteAt_0 9 rfl rfl)
theorem dX0_byteAt_12 : decode cX0_byteAt 12 = .ok (.iconst 0, 1) := dk_3 (dk_at dksX0_byteAt_0 12 rfl rfl)
theorem dX0_byteAt_13 : decode cX0_byteAt 13 = .ok (.ireturn, 1) := dk_172 (dk_at dksX0_byteAt_0 13 rfl rfl)
abbrev cX0_figure : ByteArray := prog_1_method_33_code
def yX0_figure : MethodName := ⟨RX0, "figure", "([B)I"⟩
def dkwX0_figure_1 : List UInt8 := [172, 42, 89, 180, 0, 162, 4, 96, 181, 0, 162, 28, 172]
abbrev dktX0_figure_1 : List UInt8 := dkwX0_figure_1 ++ []
def dkwX0_figure_0 : List UInt8 := [43, 42, 180, 0, 162, 184, 0, 165, 16, 48, 100, 61, 28, 3, 16, 9, 184, 0, 65, 154, 0, 6, 16, 247]
abbrev dktX0_figure_0 : List UInt8 := dkwX0_figure_0 ++ dktX0_figure_1
theorem dksX0_figure_0 : cX0_figure.data.toList.drop 0 = dktX0_figure_0 := by decide +kernel
theorem dksX0_figure_1 : cX0_figure.data.toList.drop 24 = dktX0_figure_1 := dk_seg dksX0_figure_0 24 rfl rfl
theorem dX0_figure_0 : decode cX0_figure 0 = .ok (.aload_n 1, 1) := dk_43 (dk_at dksX0_figure_0 0 rfl rfl)
theorem dX0_figure_1 : decode cX0_figure 1 = .ok (.aload_n 0, 1) := dk_42 (dk_at dksX0_figure_0 1 rfl rfl)
theorem dX0_figure_2 : decode cX0_figure 2 = .ok (.getfield 162, 3) := dk_180 0 162 (dk_at dksX0_figure_0 2 rfl rfl)
theorem dX0_figure_5 : decode cX0_figure 5 = .ok (.invokestatic 165, 3) := dk_184 0 165 (dk_at dksX0_figure_0 5 rfl rfl)
theorem dX0_figure_8 : decode cX0_figure 8 = .ok (.bipush 48, 2) := dk_16 48 (dk_at dksX0_figure_0 8 rfl rfl)
theorem dX0_figure_10 : decode cX0_figure 10 = .ok (.isub, 1) := dk_100 (dk_at dksX0_figure_0 10 rfl rfl)
theorem dX0_figure_11 : decode cX0_figure 11 = .ok (.istore_n 2, 1) := dk_61 (dk_at dksX0_figure_0 11 rfl rfl)
theorem dX0_figure_12 : decode cX0_figure 12 = .ok (.iload_n 2, 1) := dk_28 (dk_at dksX0_figure_0 12 rfl rfl)
theorem dX0_figure_13 : decode cX0_figure 13 = .ok (.iconst 0, 1) := dk_3 (dk_at dksX0_figure_0 13 rfl rfl)
theorem dX0_figure_14 : decode cX0_figure 14 = .ok (.bipush 9, 2) := dk_16 9 (dk_at dksX0_figure_0 14 rfl rfl)
theorem dX0_figure_16 : decode cX0_figure 16 = .ok (.invokestatic 65, 3) := dk_184 0 65 (dk_at dksX0_figure_0 16 rfl rfl)
theorem dX0_figure_19 : decode cX0_figure 19 = .ok (.ifCond .ne 6, 3) := dk_154 0 6 (dk_at dksX0_figure_0 19 rfl rfl)
theorem dX0_figure_22 : decode cX0_figure 22 = .ok (.bipush (-9), 2) := dk_16 247 (dk_at dksX0_figure_0 22 rfl rfl)
theorem dX0_figure_24 : decode cX0_figure 24 = .ok (.ireturn, 1) := dk_172 (dk_at dksX0_figure_1 0 rfl rfl)
theorem dX0_figure_25 : decode cX0_figure 25 = .ok (.aload_n 0, 1) := dk_42 (dk_at dksX0_figure_1 1 rfl rfl)
theorem dX0_figure_26 : decode cX0_figure 26 = .ok (.dup, 1) := dk_89 (dk_at dksX0_figure_1 2 rfl rfl)
theorem dX0_figure_27 : decode cX0_figure 27 = .ok (.getfield 162, 3) := dk_180 0 162 (dk_at dksX0_figure_1 3 rfl rfl)
theorem dX0_figure_30 : decode cX0_figure 30 = .ok (.iconst 1, 1) := dk_4 (dk_at dksX0_figure_1 6 rfl rfl)
theorem dX0_figure_31 : decode cX0_figure 31 = .ok (.iadd, 1) := dk_96 (dk_at dksX0_figure_1 7 rfl rfl)
theorem dX0_figure_32 : decode cX0_figure 32 = .ok (.putfield 162, 3) := dk_181 0 162 (dk_at dksX0_figure_1 8 rfl rfl)
theorem dX0_figure_35 : decode cX0_figure 35 = .ok (.iload_n 2, 1) := dk_28 (dk_at dksX0_figure_1 11 rfl rfl)
theorem dX0_figure_36 : decode cX0_figure 36 = .ok (.ireturn, 1) := dk_172 (dk_at dksX0_figure_1 12 rfl rfl)
abbrev cX0_readOne : ByteArray := prog_1_method_36_code
def yX0_readOne : MethodName := ⟨RX0, "readOne", "([B)Z"⟩
def dkwX0_readOne_5 : List UInt8 := [4, 96, 181, 0, 182, 4, 172]
abbrev dktX0_readOne_5 : List UInt8 := dkwX0_readOne_5 ++ []
def dkwX0_readOne_4 : List UInt8 := [182, 0, 185, 79, 42, 180, 0, 44, 29, 5, 96, 46, 16, 247, 160, 0, 5, 3, 172, 42, 89, 180, 0, 182]
abbrev dktX0_readOne_4 : List UInt8 := dkwX0_readOne_4 ++ dktX0_readOne_5
def dkwX0_readOne_3 : List UInt8 := [5, 96, 42, 180, 0, 44, 29, 4, 96, 46, 16, 247, 160, 0, 8, 16, 247, 167, 0, 8, 42, 43]
abbrev dktX0_readOne_3 : List UInt8 := dkwX0_readOne_3 ++ dktX0_readOne_4
def dkwX0_readOne_2 : List UInt8 := [180, 0, 44, 29, 28, 79, 42, 180, 0, 44, 29, 4, 96, 42, 43, 182, 0, 169, 79, 42, 180, 0, 44, 29]
abbrev dktX0_readOne_2 : List UInt8 := dkwX0_readOne_2 ++ dktX0_readOne_3
def dkwX0_readOne_1 : List UInt8 := [160, 0, 5, 3, 172, 42, 89, 180, 0, 162, 4, 96, 181, 0, 162, 6, 42, 180, 0, 182, 104, 62, 42]
abbrev dktX0_readOne_1 : List UInt8 := dkwX0_readOne_1 ++ dktX0_readOne_2
def dkwX0_readOne_0 : List UInt8 := [43, 42, 180, 0, 162, 184, 0, 165, 184, 0, 179, 61, 28, 16, 247, 159, 0, 12, 42, 180, 0, 182, 16, 6]
abbrev dktX0_readOne_0 : List UInt8 := dkwX0_readOne_0 ++ dktX0_readOne_1
theorem dksX0_readOne_0 : cX0_readOne.data.toList.drop 0 = dktX0_readOne_0 := by decide +kernel
theorem dksX0_readOne_1 : cX0_readOne.data.toList.drop 24 = dktX0_readOne_1 := dk_seg dksX0_readOne_0 24 rfl rfl
theorem dksX0_readOne_2 : cX0_readOne.data.toList.drop 47 = dktX0_readOne_2 := dk_seg dksX0_readOne_1 23 rfl rfl
theorem dksX0_readOne_3 : cX0_readOne.data.toList.drop 71 = dktX0_readOne_3 := dk_seg dksX0_readOne_2 24 rfl rfl
theorem dksX0_readOne_4 : cX0_readOne.data.toList.drop 93 = dktX0_readOne_4 := dk_seg dksX0_readOne_3 22 rfl rfl
theorem dksX0_readOne_5 : cX0_readOne.data.toList.drop 117 = dktX0_readOne_5 := dk_seg dksX0_readOne_4 24 rfl rfl
theorem dX0_readOne_0 : decode cX0_readOne 0 = .ok (.aload_n 1, 1) := dk_43 (dk_at dksX0_readOne_0 0 rfl rfl)
theorem dX0_readOne_1 : decode cX0_readOne 1 = .ok (.aload_n 0, 1) := dk_42 (dk_at dksX0_readOne_0 1 rfl rfl)
theorem dX0_readOne_2 : decode cX0_readOne 2 = .ok (.getfield 162, 3) := dk_180 0 162 (dk_at dksX0_readOne_0 2 rfl rfl)
theorem dX0_readOne_5 : decode cX0_readOne 5 = .ok (.invokestatic 165, 3) := dk_184 0 165 (dk_at dksX0_readOne_0 5 rfl rfl)
theorem dX0_readOne_8 : decode cX0_readOne 8 = .ok (.invokestatic 179, 3) := dk_184 0 179 (dk_at dksX0_readOne_0 8 rfl rfl)
theorem dX0_readOne_11 : decode cX0_readOne 11 = .ok (.istore_n 2, 1) := dk_61 (dk_at dksX0_readOne_0 11 rfl rfl)
theorem dX0_readOne_12 : decode cX0_readOne 12 = .ok (.iload_n 2, 1) := dk_28 (dk_at dksX0_readOne_0 12 rfl rfl)
theorem dX0_readOne_13 : decode cX0_readOne 13 = .ok (.bipush (-9), 2) := dk_16 247 (dk_at dksX0_readOne_0 13 rfl rfl)
theorem dX0_readOne_15 : decode cX0_readOne 15 = .ok (.if_icmp .eq 12, 3) := dk_159 0 12 (dk_at dksX0_readOne_0 15 rfl rfl)
theorem dX0_readOne_18 : decode cX0_readOne 18 = .ok (.aload_n 0, 1) := dk_42 (dk_at dksX0_readOne_0 18 rfl rfl)
theorem dX0_readOne_19 : decode cX0_readOne 19 = .ok (.getfield 182, 3) := dk_180 0 182 (dk_at dksX0_readOne_0 19 rfl rfl)
theorem dX0_readOne_22 : decode cX0_readOne 22 = .ok (.bipush 6, 2) := dk_16 6 (dk_at dksX0_readOne_0 22 rfl rfl)
theorem dX0_readOne_24 : decode cX0_readOne 24 = .ok (.if_icmp .ne 5, 3) := dk_160 0 5 (dk_at dksX0_readOne_1 0 rfl rfl)
theorem dX0_readOne_27 : decode cX0_readOne 27 = .ok (.iconst 0, 1) := dk_3 (dk_at dksX0_readOne_1 3 rfl rfl)
theorem dX0_readOne_28 : decode cX0_readOne 28 = .ok (.ireturn, 1) := dk_172 (dk_at dksX0_readOne_1 4 rfl rfl)
theorem dX0_readOne_29 : decode cX0_readOne 29 = .ok (.aload_n 0, 1) := dk_42 (dk_at dksX0_readOne_1 5 rfl rfl)
theorem dX0_readOne_30 : decode cX0_readOne 30 = .ok (.dup, 1) := dk_89 (dk_at dksX0_readOne_1 6 rfl rfl)
theorem dX0_readOne_31 : decode cX0_readOne 31 = .ok (.getfield 162, 3) := dk_180 0 162 (dk_at dksX0_readOne_1 7 rfl rfl)
theorem dX0_readOne_34 : decode cX0_readOne 34 = .ok (.iconst 1, 1) := dk_4 (dk_at dksX0_readOne_1 10 rfl rfl)
theorem dX0_readOne_35 : decode cX0_readOne 35 = .ok (.iadd, 1) := dk_96 (dk_at dksX0_readOne_1 11 rfl rfl)
theorem dX0_readOne_36 : decode cX0_readOne 36 = .ok (.putfield 162, 3) := dk_181 0 162 (dk_at dksX0_readOne_1 12 rfl rfl)
theorem dX0_readOne_39 : decode cX0_readOne 39 = .ok (.iconst 3, 1) := dk_6 (dk_at dksX0_readOne_1 15 rfl rfl)
theorem dX0_readOne_40 : decode cX0_readOne 40 = .ok (.aload_n 0, 1) := dk_42 (dk_at dksX0_readOne_1 16 rfl rfl)
theorem dX0_readOne_41 : decode cX0_readOne 41 = .ok (.getfield 182, 3) := dk_180 0 182 (dk_at dksX0_readOne_1 17 rfl rfl)
theorem dX0_readOne_44 : decode cX0_readOne 44 = .ok (.imul, 1) := dk_104 (dk_at dksX0_readOne_1 20 rfl rfl)
theorem dX0_readOne_45 : decode cX0_readOne 45 = .ok (.istore_n 3, 1) := dk_62 (dk_at dksX0_readOne_1 21 rfl rfl)
theorem dX0_readOne_46 : decode cX0_readOne 46 = .ok (.aload_n 0, 1) := dk_42 (dk_at dksX0_readOne_1 22 rfl rfl)
theorem dX0_readOne_47 : decode cX0_readOne 47 = .ok (.getfield 44, 3) := dk_180 0 44 (dk_at dksX0_readOne_2 0 rfl rfl)
theorem dX0_readOne_50 : decode cX0_readOne 50 = .ok (.iload_n 3, 1) := dk_29 (dk_at dksX0_readOne_2 3 rfl rfl)
theorem dX0_readOne_51 : decode cX0_readOne 51 = .ok (.iload_n 2, 1) := dk_28 (dk_at dksX0_readOne_2 4 rfl rfl)
theorem dX0_readOne_52 : decode cX0_readOne 52 = .ok (.iastore, 1) := dk_79 (dk_at dksX0_readOne_2 5 rfl rfl)
theorem dX0_readOne_53 : decode cX0_readOne 53 = .ok (.aload_n 0, 1) := dk_42 (dk_at dksX0_readOne_2 6 rfl rfl)
theorem dX0_readOne_54 : decode cX0_readOne 54 = .ok (.getfield 44, 3) := dk_180 0 44 (dk_at dksX0_readOne_2 7 rfl rfl)
theorem dX0_readOne_57 : decode cX0_readOne 57 = .ok (.iload_n 3, 1) := dk_29 (dk_at dksX0_readOne_2 10 rfl rfl)
theorem dX0_readOne_58 : decode cX0_readOne 58 = .ok (.iconst 1, 1) := dk_4 (dk_at dksX0_readOne_2 11 rfl rfl)
theorem dX0_readOne_59 : decode cX0_readOne 59 = .ok (.iadd, 1) := dk_96 (dk_at dksX0_readOne_2 12 rfl rfl)
theorem dX0_readOne_60 : decode cX0_readOne 60 = .ok (.aload_n 0, 1) := dk_42 (dk_at dksX0_readOne_2 13 rfl rfl)
theorem dX0_readOne_61 : decode cX0_readOne 61 = .ok (.aload_n 1, 1) := dk_43 (dk_at dksX0_readOne_2 14 rfl rfl)
theorem dX0_readOne_62 : decode cX0_readOne 62 = .ok (.invokevirtual 169, 3) := dk_182 0 169 (dk_at dksX0_readOne_2 15 rfl rfl)
theorem dX0_readOne_65 : decode cX0_readOne 65 = .ok (.iastore, 1) := dk_79 (dk_at dksX0_readOne_2 18 rfl rfl)
theorem dX0_readOne_66 : decode cX0_readOne 66 = .ok (.aload_n 0, 1) := dk_42 (dk_at dksX0_readOne_2 19 rfl rfl)
theorem dX0_readOne_67 : decode cX0_readOne 67 = .ok (.getfield 44, 3) := dk_180 0 44 (dk_at dksX0_readOne_2 20 rfl rfl)
theorem dX0_readOne_70 : decode cX0_readOne 70 = .ok (.iload_n 3, 1) := dk_29 (dk_at dksX0_readOne_2 23 rfl rfl)
theorem dX0_readOne_71 : decode cX0_readOne 71 = .ok (.iconst 2, 1) := dk_5 (dk_at dksX0_readOne_3 0 rfl rfl)
theorem dX0_readOne_72 : decode cX0_readOne 72 = .ok (.iadd, 1) := dk_96 (dk_at dksX0_readOne_3 1 rfl rfl)
theorem dX0_readOne_73 : decode cX0_readOne 73 = .ok (.aload_n 0, 1) := dk_42 (dk_at dksX0_readOne_3 2 rfl rfl)
theorem dX0_readOne_74 : decode cX0_readOne 74 = .ok (.getfield 44, 3) := dk_180 0 44 (dk_at dksX0_readOne_3 3 rfl rfl)
theorem dX0_readOne_77 : decode cX0_readOne 77 = .ok (.iload_n 3, 1) := dk_29 (dk_at dksX0_readOne_3 6 rfl rfl)
theorem dX0_readOne_78 : decode cX0_readOne 78 = .ok (.iconst 1, 1) := dk_4 (dk_at dksX0_readOne_3 7 rfl rfl)
theorem dX0_readOne_79 : decode cX0_readOne 79 = .ok (.iadd, 1) := dk_96 (dk_at dksX0_readOne_3 8 rfl rfl)
theorem dX0_readOne_80 : decode cX0_readOne 80 = .ok (.iaload, 1) := dk_46 (dk_at dksX0_readOne_3 9 rfl rfl)
theorem dX0_readOne_81 : decode cX0_readOne 81 = .ok (.bipush (-9), 2) := dk_16 247 (dk_at dksX0_readOne_3 10 rfl rfl)
theorem dX0_readOne_83 : decode cX0_readOne 83 = .ok (.if_icmp .ne 8, 3) := dk_160 0 8 (dk_at dksX0_readOne_3 12 rfl rfl)
theorem dX0_readOne_86 : decode cX0_readOne 86 = .ok (.bipush (-9), 2) := dk_16 247 (dk_at dksX0_readOne_3 15 rfl rfl)
theorem dX0_readOne_88 : decode cX0_readOne 88 = .ok (.goto 8, 3) := dk_167 0 8 (dk_at dksX0_readOne_3 17 rfl rfl)
theorem dX0_readOne_91 : decode cX0_readOne 91 = .ok (.aload_n 0, 1) := dk_42 (dk_at dksX0_readOne_3 20 rfl rfl)
theorem dX0_readOne_92 : decode cX0_readOne 92 = .ok (.aload_n 1, 1) := dk_43 (dk_at dksX0_readOne_3 21 rfl rfl)
theorem dX0_readOne_93 : decode cX0_readOne 93 = .ok (.invokevirtual 185, 3) := dk_182 0 185 (dk_at dksX0_readOne_4 0 rfl rfl)
theorem dX0_readOne_96 : decode cX0_readOne 96 = .ok (.iastore, 1) := dk_79 (dk_at dksX0_readOne_4 3 rfl rfl)
theorem dX0_readOne_97 : decode cX0_readOne 97 = .ok (.aload_n 0, 1) := dk_42 (dk_at dksX0_readOne_4 4 rfl rfl)
theorem dX0_readOne_98 : decode cX0_readOne 98 = .ok (.getfield 44, 3) := dk_180 0 44 (dk_at dksX0_readOne_4 5 rfl rfl)
theorem dX0_readOne_101 : decode cX0_readOne 101 = .ok (.iload_n 3, 1) := dk_29 (dk_at dksX0_readOne_4 8 rfl rfl)
theorem dX0_readOne_102 : decode cX0_readOne 102 = .ok (.iconst 2, 1) := dk_5 (dk_at dksX0_readOne_4 9 rfl rfl)
theorem dX0_readOne_103 : decode cX0_readOne 103 = .ok (.iadd, 1) := dk_96 (dk_at dksX0_readOne_4 10 rfl rfl)
theorem dX0_readOne_104 : decode cX0_readOne 104 = .ok (.iaload, 1) := dk_46 (dk_at dksX0_readOne_4 11 rfl rfl)
theorem dX0_readOne_105 : decode cX0_readOne 105 = .ok (.bipush (-9), 2) := dk_16 247 (dk_at dksX0_readOne_4 12 rfl rfl)
theorem dX0_readOne_107 : decode cX0_readOne 107 = .ok (.if_icmp .ne 5, 3) := dk_160 0 5 (dk_at dksX0_readOne_4 14 rfl rfl)
theorem dX0_readOne_110 : decode cX0_readOne 110 = .ok (.iconst 0, 1) := dk_3 (dk_at dksX0_readOne_4 17 rfl rfl)
theorem dX0_readOne_111 : decode cX0_readOne 111 = .ok (.ireturn, 1) := dk_172 (dk_at dksX0_readOne_4 18 rfl rfl)
theorem dX0_readOne_112 : decode cX0_readOne 112 = .ok (.aload_n 0, 1) := dk_42 (dk_at dksX0_readOne_4 19 rfl rfl)
theorem dX0_readOne_113 : decode cX0_readOne 113 = .ok (.dup, 1) := dk_89 (dk_at dksX0_readOne_4 20 rfl rfl)
theorem dX0_readOne_114 : decode cX0_readOne 114 = .ok (.getfield 182, 3) := dk_180 0 182 (dk_at dksX0_readOne_4 21 rfl rfl)
theorem dX0_readOne_117 : decode cX0_readOne 117 = .ok (.iconst 1, 1) := dk_4 (dk_at dksX0_readOne_5 0 rfl rfl)
theorem dX0_readOne_118 : decode cX0_readOne 118 = .ok (.iadd, 1) := dk_96 (dk_at dksX0_readOne_5 1 rfl rfl)
theorem dX0_readOne_119 : decode cX0_readOne 119 = .ok (.putfield 182, 3) := dk_181 0 182 (dk_at dksX0_readOne_5 2 rfl rfl)
theorem dX0_readOne_122 : decode cX0_readOne 122 = .ok (.iconst 1, 1) := dk_4 (dk_at dksX0_readOne_5 5 rfl rfl)
theorem dX0_readOne_123 : decode cX0_readOne 123 = .ok (.ireturn, 1) := dk_172 (dk_at dksX0_readOne_5 6 rfl rfl)
abbrev cX0_kindOf : ByteArray := prog_1_method_32_code
def yX0_kindOf : MethodName := ⟨RX0, "kindOf", "(I)I"⟩
def dkwX0_kindOf_2 : List UInt8 := [3, 172, 4, 172, 5, 172, 6, 172, 7, 172, 8, 172, 16, 247, 172]
abbrev dktX0_kindOf_2 : List UInt8 := dkwX0_kindOf_2 ++ []
def dkwX0_kindOf_1 : List UInt8 := [170, 0, 0, 0, 0, 0, 103, 0, 0, 0, 98, 0, 0, 0, 116, 0, 0, 0, 97, 0, 0, 0, 103, 0, 0, 0, 93, 0, 0, 0, 95, 0, 0, 0, 103, 0, 0, 0, 103, 0, 0, 0, 103, 0, 0, 0, 103, 0, 0, 0, 103, 0, 0, 0, 103, 0, 0, 0, 103, 0, 0, 0, 103, 0, 0, 0, 103, 0, 0, 0, 103, 0, 0, 0, 91, 0, 0, 0, 101, 0, 0, 0, 103, 0, 0, 0, 103, 0, 0, 0, 99]
abbrev dktX0_kindOf_1 : List UInt8 := dkwX0_kindOf_1 ++ dktX0_kindOf_2
def dkwX0_kindOf_0 : List UInt8 := [26]
abbrev dktX0_kindOf_0 : List UInt8 := dkwX0_kindOf_0 ++ dktX0_kindOf_1
theorem dksX0_kindOf_0 : cX0_kindOf.data.toList.drop 0 = dktX0_kindOf_0 := by decide +kernel
theorem dksX0_kindOf_1 : cX0_kindOf.data.toList.drop 1 = dktX0_kindOf_1 := dk_seg dksX0_kindOf_0 1 rfl rfl
theorem dksX0_kindOf_2 : cX0_kindOf.data.toList.drop 92 = dktX0_kindOf_2 := dk_seg dksX0_kindOf_1 91 rfl rfl
theorem dX0_kindOf_0 : decode cX0_kindOf 0 = .ok (.iload_n 0, 1) := dk_26 (dk_at dksX0_kindOf_0 0 rfl rfl)
theorem dX0_kindOf_1 : decode cX0_kindOf 1 = .ok (.tableswitch 103 98 116 #[97, 103, 93, 95, 103, 103, 103, 103, 103, 103, 103, 103, 103, 103, 91, 101, 103, 103, 99], 91) := by decide +kernel
theorem dX0_kindOf_92 : decode cX0_kindOf 92 = .ok (.iconst 0, 1) := dk_3 (dk_at dksX0_kindOf_2 0 rfl rfl)
theorem dX0_kindOf_93 : decode cX0_kindOf 93 = .ok (.ireturn, 1) := dk_172 (dk_at dksX0_kindOf_2 1 rfl rfl)
theorem dX0_kindOf_94 : decode cX0_kindOf 94 = .ok (.iconst 1, 1) := dk_4 (dk_at dksX0_kindOf_2 2 rfl rfl)
theorem dX0_kindOf_95 : decode cX0_kindOf 95 = .ok (.ireturn, 1) := dk_172 (dk_at dksX0_kindOf_2 3 rfl rfl)
theorem dX0_kindOf_96 : decode cX0_kindOf 96 = .ok (.iconst 2, 1) := dk_5 (dk_at dksX0_kindOf_2 4 rfl rfl)
theorem dX0_kindOf_97 : decode cX0_kindOf 97 = .ok (.ireturn, 1) := dk_172 (dk_at dksX0_kindOf_2 5 rfl rfl)
theorem dX0_kindOf_98 : decode cX0_kindOf 98 = .ok (.iconst 3, 1) := dk_6 (dk_at dksX0_kindOf_2 6 rfl rfl)
theorem dX0_kindOf_99 : decode cX0_kindOf 99 = .ok (.ireturn, 1) := dk_172 (dk_at dksX0_kindOf_2 7 rfl rfl)
theorem dX0_kindOf_100 : decode cX0_kindOf 100 = .ok (.iconst 4, 1) := dk_7 (dk_at dksX0_kindOf_2 8 rfl rfl)
theorem dX0_kindOf_101 : decode cX0_kindOf 101 = .ok (.ireturn, 1) := dk_172 (dk_at dksX0_kindOf_2 9 rfl rfl)
theorem dX0_kindOf_102 : decode cX0_kindOf 102 = .ok (.iconst 5, 1) := dk_8 (dk_at dksX0_kindOf_2 10 rfl rfl)
theorem dX0_kindOf_103 : decode cX0_kindOf 103 = .ok (.ireturn, 1) := dk_172 (dk_at dksX0_kindOf_2 11 rfl rfl)
theorem dX0_kindOf_104 : decode cX0_kindOf 104 = .ok (.bipush (-9), 2) := dk_16 247 (dk_at dksX0_kindOf_2 12 rfl rfl)
theorem dX0_kindOf_106 : decode cX0_kindOf 106 = .ok (.ireturn, 1) := dk_172 (dk_at dksX0_kindOf_2 14 rfl rfl)
abbrev cX0_readDaring : ByteArray := prog_1_method_34_code
def yX0_readDaring : MethodName := ⟨RX0, "readDaring", "([B)I"⟩
def dkwX0_readDaring_2 : List UInt8 := [21, 5, 184, 0, 173, 154, 0, 11, 42, 28, 181, 0, 162, 16, 247, 172, 21, 5, 172]
abbrev dktX0_readDaring_2 : List UInt8 := dkwX0_readDaring_2 ++ []
def dkwX0_readDaring_1 : List UInt8 := [182, 0, 169, 54, 4, 21, 4, 16, 247, 160, 0, 6, 16, 247, 172, 16, 10, 29, 104, 21, 4, 96, 54, 5]
abbrev dktX0_readDaring_1 : List UInt8 := dkwX0_readDaring_1 ++ dktX0_readDaring_2
def dkwX0_readDaring_0 : List UInt8 := [42, 180, 0, 162, 61, 42, 43, 182, 0, 169, 62, 29, 16, 247, 160, 0, 8, 16, 247, 167, 0, 8, 42, 43]
abbrev dktX0_readDaring_0 : List UInt8 := dkwX0_readDaring_0 ++ dktX0_readDaring_1
theorem dksX0_readDaring_0 : cX0_readDaring.data.toList.drop 0 = dktX0_readDaring_0 := by decide +kernel
theorem dksX0_readDaring_1 : cX0_readDaring.data.toList.drop 24 = dktX0_readDaring_1 := dk_seg dksX0_readDaring_0 24 rfl rfl
theorem dksX0_readDaring_2 : cX0_readDaring.data.toList.drop 48 = dktX0_readDaring_2 := dk_seg dksX0_readDaring_1 24 rfl rfl
theorem dX0_readDaring_0 : decode cX0_readDaring 0 = .ok (.aload_n 0, 1) := dk_42 (dk_at dksX0_readDaring_0 0 rfl rfl)
theorem dX0_readDaring_1 : decode cX0_readDaring 1 = .ok (.getfield 162, 3) := dk_180 0 162 (dk_at dksX0_readDaring_0 1 rfl rfl)
theorem dX0_readDaring_4 : decode cX0_readDaring 4 = .ok (.istore_n 2, 1) := dk_61 (dk_at dksX0_readDaring_0 4 rfl rfl)
theorem dX0_readDaring_5 : decode cX0_readDaring 5 = .ok (.aload_n 0, 1) := dk_42 (dk_at dksX0_readDaring_0 5 rfl rfl)
theorem dX0_readDaring_6 : decode cX0_readDaring 6 = .ok (.aload_n 1, 1) := dk_43 (dk_at dksX0_readDaring_0 6 rfl rfl)
theorem dX0_readDaring_7 : decode cX0_readDaring 7 = .ok (.invokevirtual 169, 3) := dk_182 0 169 (dk_at dksX0_readDaring_0 7 rfl rfl)
theorem dX0_readDaring_10 : decode cX0_readDaring 10 = .ok (.istore_n 3, 1) := dk_62 (dk_at dksX0_readDaring_0 10 rfl rfl)
theorem dX0_readDaring_11 : decode cX0_readDaring 11 = .ok (.iload_n 3, 1) := dk_29 (dk_at dksX0_readDaring_0 11 rfl rfl)
theorem dX0_readDaring_12 : decode cX0_readDaring 12 = .ok (.bipush (-9), 2) := dk_16 247 (dk_at dksX0_readDaring_0 12 rfl rfl)
theorem dX0_readDaring_14 : decode cX0_readDaring 14 = .ok (.if_icmp .ne 8, 3) := dk_160 0 8 (dk_at dksX0_readDaring_0 14 rfl rfl)
theorem dX0_readDaring_17 : decode cX0_readDaring 17 = .ok (.bipush (-9), 2) := dk_16 247 (dk_at dksX0_readDaring_0 17 rfl rfl)
theorem dX0_readDaring_19 : decode cX0_readDaring 19 = .ok (.goto 8, 3) := dk_167 0 8 (dk_at dksX0_readDaring_0 19 rfl rfl)
theorem dX0_readDaring_22 : decode cX0_readDaring 22 = .ok (.aload_n 0, 1) := dk_42 (dk_at dksX0_readDaring_0 22 rfl rfl)
theorem dX0_readDaring_23 : decode cX0_readDaring 23 = .ok (.aload_n 1, 1) := dk_43 (dk_at dksX0_readDaring_0 23 rfl rfl)
theorem dX0_readDaring_24 : decode cX0_readDaring 24 = .ok (.invokevirtual 169, 3) := dk_182 0 169 (dk_at dksX0_readDaring_1 0 rfl rfl)
theorem dX0_readDaring_27 : decode cX0_readDaring 27 = .ok (.istore 4, 2) := dk_54 4 (dk_at dksX0_readDaring_1 3 rfl rfl)
theorem dX0_readDaring_29 : decode cX0_readDaring 29 = .ok (.iload 4, 2) := dk_21 4 (dk_at dksX0_readDaring_1 5 rfl rfl)
theorem dX0_readDaring_31 : decode cX0_readDaring 31 = .ok (.bipush (-9), 2) := dk_16 247 (dk_at dksX0_readDaring_1 7 rfl rfl)
theorem dX0_readDaring_33 : decode cX0_readDaring 33 = .ok (.if_icmp .ne 6, 3) := dk_160 0 6 (dk_at dksX0_readDaring_1 9 rfl rfl)
theorem dX0_readDaring_36 : decode cX0_readDaring 36 = .ok (.bipush (-9), 2) := dk_16 247 (dk_at dksX0_readDaring_1 12 rfl rfl)
theorem dX0_readDaring_38 : decode cX0_readDaring 38 = .ok (.ireturn, 1) := dk_172 (dk_at dksX0_readDaring_1 14 rfl rfl)
theorem dX0_readDaring_39 : decode cX0_readDaring 39 = .ok (.bipush 10, 2) := dk_16 10 (dk_at dksX0_readDaring_1 15 rfl rfl)
theorem dX0_readDaring_41 : decode cX0_readDaring 41 = .ok (.iload_n 3, 1) := dk_29 (dk_at dksX0_readDaring_1 17 rfl rfl)
theorem dX0_readDaring_42 : decode cX0_readDaring 42 = .ok (.imul, 1) := dk_104 (dk_at dksX0_readDaring_1 18 rfl rfl)
theorem dX0_readDaring_43 : decode cX0_readDaring 43 = .ok (.iload 4, 2) := dk_21 4 (dk_at dksX0_readDaring_1 19 rfl rfl)
theorem dX0_readDaring_45 : decode cX0_readDaring 45 = .ok (.iadd, 1) := dk_96 (dk_at dksX0_readDaring_1 21 rfl rfl)
theorem dX0_readDaring_46 : decode cX0_readDaring 46 = .ok (.istore 5, 2) := dk_54 5 (dk_at dksX0_readDaring_1 22 rfl rfl)
theorem dX0_readDaring_48 : decode cX0_readDaring 48 = .ok (.iload 5, 2) := dk_21 5 (dk_at dksX0_readDaring_2 0 rfl rfl)
theorem dX0_readDaring_50 : decode cX0_readDaring 50 = .ok (.invokestatic 173, 3) := dk_184 0 173 (dk_at dksX0_readDaring_2 2 rfl rfl)
theorem dX0_readDaring_53 : decode cX0_readDaring 53 = .ok (.ifCond .ne 11, 3) := dk_154 0 11 (dk_at dksX0_readDaring_2 5 rfl rfl)
theorem dX0_readDaring_56 : decode cX0_readDaring 56 = .ok (.aload_n 0, 1) := dk_42 (dk_at dksX0_readDaring_2 8 rfl rfl)
theorem dX0_readDaring_57 : decode cX0_readDaring 57 = .ok (.iload_n 2, 1) := dk_28 (dk_at dksX0_readDaring_2 9 rfl rfl)
theorem dX0_readDaring_58 : decode cX0_readDaring 58 = .ok (.putfield 162, 3) := dk_181 0 162 (dk_at dksX0_readDaring_2 10 rfl rfl)
theorem dX0_readDaring_61 : decode cX0_readDaring 61 = .ok (.bipush (-9), 2) := dk_16 247 (dk_at dksX0_readDaring_2 13 rfl rfl)
theorem dX0_readDaring_63 : decode cX0_readDaring 63 = .ok (.ireturn, 1) := dk_172 (dk_at dksX0_readDaring_2 15 rfl rfl)
theorem dX0_readDaring_64 : decode cX0_readDaring 64 = .ok (.iload 5, 2) := dk_21 5 (dk_at dksX0_readDaring_2 16 rfl rfl)
theorem dX0_readDaring_66 : decode cX0_readDaring 66 = .ok (.ireturn, 1) := dk_172 (dk_at dksX0_readDaring_2 18 rfl rfl)
abbrev cX0_isDaring : ByteArray := prog_1_method_22_code
def yX0_isDaring : MethodName := ⟨RX0, "isDaring", "(I)Z"⟩
def dkwX0_isDaring_0 : List UInt8 := [26, 3, 16, 20, 184, 0, 65, 172]
abbrev dktX0_isDaring_0 : List UInt8 := dkwX0_isDaring_0 ++ []
theorem dksX0_isDaring_0 : cX0_isDaring.data.toList.drop 0 = dktX0_isDaring_0 := by decide +kernel
theorem dX0_isDaring_0 : decode cX0_isDaring 0 = .ok (.iload_n 0, 1) := dk_26 (dk_at dksX0_isDaring_0 0 rfl rfl)
theorem dX0_isDaring_1 : decode cX0_isDaring 1 = .ok (.iconst 0, 1) := dk_3 (dk_at dksX0_isDaring_0 1 rfl rfl)
theorem dX0_isDaring_2 : decode cX0_isDaring 2 = .ok (.bipush 20, 2) := dk_16 20 (dk_at dksX0_isDaring_0 2 rfl rfl)
theorem dX0_isDaring_4 : decode cX0_isDaring 4 = .ok (.invokestatic 65, 3) := dk_184 0 65 (dk_at dksX0_isDaring_0 4 rfl rfl)
theorem dX0_isDaring_7 : decode cX0_isDaring 7 = .ok (.ireturn, 1) := dk_172 (dk_at dksX0_isDaring_0 7 rfl rfl)
abbrev cX0_river : ByteArray := prog_1_method_39_code
def yX0_river : MethodName := ⟨RX0, "river", "(I)I"⟩
def dkwX0_river_7 : List UInt8 := [162, 0, 16, 42, 180, 0, 50, 28, 1, 83, 132, 2, 1, 167, 255, 237, 42, 180, 0, 116, 172]
abbrev dktX0_river_7 : List UInt8 := dkwX0_river_7 ++ []
def dkwX0_river_6 : List UInt8 := [5, 96, 46, 79, 132, 2, 1, 167, 255, 189, 42, 3, 181, 0, 202, 3, 61, 28, 42, 180, 0, 50, 190]
abbrev dktX0_river_6 : List UInt8 := dkwX0_river_6 ++ dktX0_river_7
def dkwX0_river_5 : List UInt8 := [180, 0, 44, 6, 28, 104, 4, 96, 46, 79, 42, 180, 0, 41, 5, 28, 96, 42, 180, 0, 44, 6, 28, 104]
abbrev dktX0_river_5 : List UInt8 := dkwX0_river_5 ++ dktX0_river_6
def dkwX0_river_4 : List UInt8 := [28, 42, 42, 180, 0, 44, 6, 28, 104, 46, 28, 182, 0, 198, 83, 42, 180, 0, 41, 16, 8, 28, 96, 42]
abbrev dktX0_river_4 : List UInt8 := dkwX0_river_4 ++ dktX0_river_5
def dkwX0_river_3 : List UInt8 := [42, 180, 0, 41, 4, 42, 180, 0, 176, 79, 3, 61, 28, 42, 180, 0, 116, 162, 0, 65, 42, 180, 0, 37]
abbrev dktX0_river_3 : List UInt8 := dkwX0_river_3 ++ dktX0_river_4
def dkwX0_river_2 : List UInt8 := [181, 0, 116, 3, 61, 28, 16, 20, 162, 0, 16, 42, 180, 0, 41, 28, 3, 79, 132, 2, 1, 167, 255, 240]
abbrev dktX0_river_2 : List UInt8 := dkwX0_river_2 ++ dktX0_river_3
def dkwX0_river_1 : List UInt8 := [42, 42, 180, 0, 31, 27, 50, 182, 0, 195, 16, 247, 159, 0, 6, 16, 252, 172, 42, 42, 180, 0, 182]
abbrev dktX0_river_1 : List UInt8 := dkwX0_river_1 ++ dktX0_river_2
def dkwX0_river_0 : List UInt8 := [27, 184, 0, 95, 154, 0, 5, 2, 172, 42, 180, 0, 31, 27, 50, 199, 0, 9, 42, 4, 182, 0, 75, 172]
abbrev dktX0_river_0 : List UInt8 := dkwX0_river_0 ++ dktX0_river_1
theorem dksX0_river_0 : cX0_river.data.toList.drop 0 = dktX0_river_0 := by decide +kernel
theorem dksX0_river_1 : cX0_river.data.toList.drop 24 = dktX0_river_1 := dk_seg dksX0_river_0 24 rfl rfl
theorem dksX0_river_2 : cX0_river.data.toList.drop 47 = dktX0_river_2 := dk_seg dksX0_river_1 23 rfl rfl
theorem dksX0_river_3 : cX0_river.data.toList.drop 71 = dktX0_river_3 := dk_seg dksX0_river_2 24 rfl rfl
theorem dksX0_river_4 : cX0_river.data.toList.drop 95 = dktX0_river_4 := dk_seg dksX0_river_3 24 rfl rfl
theorem dksX0_river_5 : cX0_river.data.toList.drop 119 = dktX0_river_5 := dk_seg dksX0_river_4 24 rfl rfl
theorem dksX0_river_6 : cX0_river.data.toList.drop 143 = dktX0_river_6 := dk_seg dksX0_river_5 24 rfl rfl
theorem dksX0_river_7 : cX0_river.data.toList.drop 166 = dktX0_river_7 := dk_seg dksX0_river_6 23 rfl rfl
theorem dX0_river_0 : decode cX0_river 0 = .ok (.iload_n 1, 1) := dk_27 (dk_at dksX0_river_0 0 rfl rfl)
theorem dX0_river_1 : decode cX0_river 1 = .ok (.invokestatic 95, 3) := dk_184 0 95 (dk_at dksX0_river_0 1 rfl rfl)
theorem dX0_river_4 : decode cX0_river 4 = .ok (.ifCond .ne 5, 3) := dk_154 0 5 (dk_at dksX0_river_0 4 rfl rfl)
theorem dX0_river_7 : decode cX0_river 7 = .ok (.iconst (-1), 1) := dk_2 (dk_at dksX0_river_0 7 rfl rfl)
theorem dX0_river_8 : decode cX0_river 8 = .ok (.ireturn, 1) := dk_172 (dk_at dksX0_river_0 8 rfl rfl)
theorem dX0_river_9 : decode cX0_river 9 = .ok (.aload_n 0, 1) := dk_42 (dk_at dksX0_river_0 9 rfl rfl)
theorem dX0_river_10 : decode cX0_river 10 = .ok (.getfield 31, 3) := dk_180 0 31 (dk_at dksX0_river_0 10 rfl rfl)
theorem dX0_river_13 : decode cX0_river 13 = .ok (.iload_n 1, 1) := dk_27 (dk_at dksX0_river_0 13 rfl rfl)
theorem dX0_river_14 : decode cX0_river 14 = .ok (.aaload, 1) := dk_50 (dk_at dksX0_river_0 14 rfl rfl)
theorem dX0_river_15 : decode cX0_river 15 = .ok (.ifnonnull 9, 3) := dk_199 0 9 (dk_at dksX0_river_0 15 rfl rfl)
theorem dX0_river_18 : decode cX0_river 18 = .ok (.aload_n 0, 1) := dk_42 (dk_at dksX0_river_0 18 rfl rfl)
theorem dX0_river_19 : decode cX0_river 19 = .ok (.iconst 1, 1) := dk_4 (dk_at dksX0_river_0 19 rfl rfl)
theorem dX0_river_20 : decode cX0_river 20 = .ok (.invokevirtual 75, 3) := dk_182 0 75 (dk_at dksX0_river_0 20 rfl rfl)
theorem dX0_river_23 : decode cX0_river 23 = .ok (.ireturn, 1) := dk_172 (dk_at dksX0_river_0 23 rfl rfl)
theorem dX0_river_24 : decode cX0_river 24 = .ok (.aload_n 0, 1) := dk_42 (dk_at dksX0_river_1 0 rfl rfl)
theorem dX0_river_25 : decode cX0_river 25 = .ok (.aload_n 0, 1) := dk_42 (dk_at dksX0_river_1 1 rfl rfl)
theorem dX0_river_26 : decode cX0_river 26 = .ok (.getfield 31, 3) := dk_180 0 31 (dk_at dksX0_river_1 2 rfl rfl)
theorem dX0_river_29 : decode cX0_river 29 = .ok (.iload_n 1, 1) := dk_27 (dk_at dksX0_river_1 5 rfl rfl)
theorem dX0_river_30 : decode cX0_river 30 = .ok (.aaload, 1) := dk_50 (dk_at dksX0_river_1 6 rfl rfl)
theorem dX0_river_31 : decode cX0_river 31 = .ok (.invokevirtual 195, 3) := dk_182 0 195 (dk_at dksX0_river_1 7 rfl rfl)
theorem dX0_river_34 : decode cX0_river 34 = .ok (.bipush (-9), 2) := dk_16 247 (dk_at dksX0_river_1 10 rfl rfl)
theorem dX0_river_36 : decode cX0_river 36 = .ok (.if_icmp .eq 6, 3) := dk_159 0 6 (dk_at dksX0_river_1 12 rfl rfl)
theorem dX0_river_39 : decode cX0_river 39 = .ok (.bipush (-4), 2) := dk_16 252 (dk_at dksX0_river_1 15 rfl rfl)
theorem dX0_river_41 : decode cX0_river 41 = .ok (.ireturn, 1) := dk_172 (dk_at dksX0_river_1 17 rfl rfl)
theorem dX0_river_42 : decode cX0_river 42 = .ok (.aload_n 0, 1) := dk_42 (dk_at dksX0_river_1 18 rfl rfl)
theorem dX0_river_43 : decode cX0_river 43 = .ok (.aload_n 0, 1) := dk_42 (dk_at dksX0_river_1 19 rfl rfl)
theorem dX0_river_44 : decode cX0_river 44 = .ok (.getfield 182, 3) := dk_180 0 182 (dk_at dksX0_river_1 20 rfl rfl)
theorem dX0_river_47 : decode cX0_river 47 = .ok (.putfield 116, 3) := dk_181 0 116 (dk_at dksX0_river_2 0 rfl rfl)
theorem dX0_river_50 : decode cX0_river 50 = .ok (.iconst 0, 1) := dk_3 (dk_at dksX0_river_2 3 rfl rfl)
theorem dX0_river_51 : decode cX0_river 51 = .ok (.istore_n 2, 1) := dk_61 (dk_at dksX0_river_2 4 rfl rfl)
theorem dX0_river_52 : decode cX0_river 52 = .ok (.iload_n 2, 1) := dk_28 (dk_at dksX0_river_2 5 rfl rfl)
theorem dX0_river_53 : decode cX0_river 53 = .ok (.bipush 20, 2) := dk_16 20 (dk_at dksX0_river_2 6 rfl rfl)
theorem dX0_river_55 : decode cX0_river 55 = .ok (.if_icmp .ge 16, 3) := dk_162 0 16 (dk_at dksX0_river_2 8 rfl rfl)
theorem dX0_river_58 : decode cX0_river 58 = .ok (.aload_n 0, 1) := dk_42 (dk_at dksX0_river_2 11 rfl rfl)
theorem dX0_river_59 : decode cX0_river 59 = .ok (.getfield 41, 3) := dk_180 0 41 (dk_at dksX0_river_2 12 rfl rfl)
theorem dX0_river_62 : decode cX0_river 62 = .ok (.iload_n 2, 1) := dk_28 (dk_at dksX0_river_2 15 rfl rfl)
theorem dX0_river_63 : decode cX0_river 63 = .ok (.iconst 0, 1) := dk_3 (dk_at dksX0_river_2 16 rfl rfl)
theorem dX0_river_64 : decode cX0_river 64 = .ok (.iastore, 1) := dk_79 (dk_at dksX0_river_2 17 rfl rfl)
theorem dX0_river_65 : decode cX0_river 65 = .ok (.iinc 2 1, 3) := dk_132 2 1 (dk_at dksX0_river_2 18 rfl rfl)
theorem dX0_river_68 : decode cX0_river 68 = .ok (.goto (-16), 3) := dk_167 255 240 (dk_at dksX0_river_2 21 rfl rfl)
theorem dX0_river_71 : decode cX0_river 71 = .ok (.aload_n 0, 1) := dk_42 (dk_at dksX0_river_3 0 rfl rfl)
theorem dX0_river_72 : decode cX0_river 72 = .ok (.getfield 41, 3) := dk_180 0 41 (dk_at dksX0_river_3 1 rfl rfl)
theorem dX0_river_75 : decode cX0_river 75 = .ok (.iconst 1, 1) := dk_4 (dk_at dksX0_river_3 4 rfl rfl)
theorem dX0_river_76 : decode cX0_river 76 = .ok (.aload_n 0, 1) := dk_42 (dk_at dksX0_river_3 5 rfl rfl)
theorem dX0_river_77 : decode cX0_river 77 = .ok (.getfield 176, 3) := dk_180 0 176 (dk_at dksX0_river_3 6 rfl rfl)
theorem dX0_river_80 : decode cX0_river 80 = .ok (.iastore, 1) := dk_79 (dk_at dksX0_river_3 9 rfl rfl)
theorem dX0_river_81 : decode cX0_river 81 = .ok (.iconst 0, 1) := dk_3 (dk_at dksX0_river_3 10 rfl rfl)
theorem dX0_river_82 : decode cX0_river 82 = .ok (.istore_n 2, 1) := dk_61 (dk_at dksX0_river_3 11 rfl rfl)
theorem dX0_river_83 : decode cX0_river 83 = .ok (.iload_n 2, 1) := dk_28 (dk_at dksX0_river_3 12 rfl rfl)
theorem dX0_river_84 : decode cX0_river 84 = .ok (.aload_n 0, 1) := dk_42 (dk_at dksX0_river_3 13 rfl rfl)
theorem dX0_river_85 : decode cX0_river 85 = .ok (.getfield 116, 3) := dk_180 0 116 (dk_at dksX0_river_3 14 rfl rfl)
theorem dX0_river_88 : decode cX0_river 88 = .ok (.if_icmp .ge 65, 3) := dk_162 0 65 (dk_at dksX0_river_3 17 rfl rfl)
theorem dX0_river_91 : decode cX0_river 91 = .ok (.aload_n 0, 1) := dk_42 (dk_at dksX0_river_3 20 rfl rfl)
theorem dX0_river_92 : decode cX0_river 92 = .ok (.getfield 37, 3) := dk_180 0 37 (dk_at dksX0_river_3 21 rfl rfl)
theorem dX0_river_95 : decode cX0_river 95 = .ok (.iload_n 2, 1) := dk_28 (dk_at dksX0_river_4 0 rfl rfl)
theorem dX0_river_96 : decode cX0_river 96 = .ok (.aload_n 0, 1) := dk_42 (dk_at dksX0_river_4 1 rfl rfl)
theorem dX0_river_97 : decode cX0_river 97 = .ok (.aload_n 0, 1) := dk_42 (dk_at dksX0_river_4 2 rfl rfl)
theorem dX0_river_98 : decode cX0_river 98 = .ok (.getfield 44, 3) := dk_180 0 44 (dk_at dksX0_river_4 3 rfl rfl)
theorem dX0_river_101 : decode cX0_river 101 = .ok (.iconst 3, 1) := dk_6 (dk_at dksX0_river_4 6 rfl rfl)
theorem dX0_river_102 : decode cX0_river 102 = .ok (.iload_n 2, 1) := dk_28 (dk_at dksX0_river_4 7 rfl rfl)
theorem dX0_river_103 : decode cX0_river 103 = .ok (.imul, 1) := dk_104 (dk_at dksX0_river_4 8 rfl rfl)
theorem dX0_river_104 : decode cX0_river 104 = .ok (.iaload, 1) := dk_46 (dk_at dksX0_river_4 9 rfl rfl)
theorem dX0_river_105 : decode cX0_river 105 = .ok (.iload_n 2, 1) := dk_28 (dk_at dksX0_river_4 10 rfl rfl)
theorem dX0_river_106 : decode cX0_river 106 = .ok (.invokevirtual 198, 3) := dk_182 0 198 (dk_at dksX0_river_4 11 rfl rfl)
theorem dX0_river_109 : decode cX0_river 109 = .ok (.aastore, 1) := dk_83 (dk_at dksX0_river_4 14 rfl rfl)
theorem dX0_river_110 : decode cX0_river 110 = .ok (.aload_n 0, 1) := dk_42 (dk_at dksX0_river_4 15 rfl rfl)
theorem dX0_river_111 : decode cX0_river 111 = .ok (.getfield 41, 3) := dk_180 0 41 (dk_at dksX0_river_4 16 rfl rfl)
theorem dX0_river_114 : decode cX0_river 114 = .ok (.bipush 8, 2) := dk_16 8 (dk_at dksX0_river_4 19 rfl rfl)
theorem dX0_river_116 : decode cX0_river 116 = .ok (.iload_n 2, 1) := dk_28 (dk_at dksX0_river_4 21 rfl rfl)
theorem dX0_river_117 : decode cX0_river 117 = .ok (.iadd, 1) := dk_96 (dk_at dksX0_river_4 22 rfl rfl)
theorem dX0_river_118 : decode cX0_river 118 = .ok (.aload_n 0, 1) := dk_42 (dk_at dksX0_river_4 23 rfl rfl)
theorem dX0_river_119 : decode cX0_river 119 = .ok (.getfield 44, 3) := dk_180 0 44 (dk_at dksX0_river_5 0 rfl rfl)
theorem dX0_river_122 : decode cX0_river 122 = .ok (.iconst 3, 1) := dk_6 (dk_at dksX0_river_5 3 rfl rfl)
theorem dX0_river_123 : decode cX0_river 123 = .ok (.iload_n 2, 1) := dk_28 (dk_at dksX0_river_5 4 rfl rfl)
theorem dX0_river_124 : decode cX0_river 124 = .ok (.imul, 1) := dk_104 (dk_at dksX0_river_5 5 rfl rfl)
theorem dX0_river_125 : decode cX0_river 125 = .ok (.iconst 1, 1) := dk_4 (dk_at dksX0_river_5 6 rfl rfl)
theorem dX0_river_126 : decode cX0_river 126 = .ok (.iadd, 1) := dk_96 (dk_at dksX0_river_5 7 rfl rfl)
theorem dX0_river_127 : decode cX0_river 127 = .ok (.iaload, 1) := dk_46 (dk_at dksX0_river_5 8 rfl rfl)
theorem dX0_river_128 : decode cX0_river 128 = .ok (.iastore, 1) := dk_79 (dk_at dksX0_river_5 9 rfl rfl)
theorem dX0_river_129 : decode cX0_river 129 = .ok (.aload_n 0, 1) := dk_42 (dk_at dksX0_river_5 10 rfl rfl)
theorem dX0_river_130 : decode cX0_river 130 = .ok (.getfield 41, 3) := dk_180 0 41 (dk_at dksX0_river_5 11 rfl rfl)
theorem dX0_river_133 : decode cX0_river 133 = .ok (.iconst 2, 1) := dk_5 (dk_at dksX0_river_5 14 rfl rfl)
theorem dX0_river_134 : decode cX0_river 134 = .ok (.iload_n 2, 1) := dk_28 (dk_at dksX0_river_5 15 rfl rfl)
theorem dX0_river_135 : decode cX0_river 135 = .ok (.iadd, 1) := dk_96 (dk_at dksX0_river_5 16 rfl rfl)
theorem dX0_river_136 : decode cX0_river 136 = .ok (.aload_n 0, 1) := dk_42 (dk_at dksX0_river_5 17 rfl rfl)
theorem dX0_river_137 : decode cX0_river 137 = .ok (.getfield 44, 3) := dk_180 0 44 (dk_at dksX0_river_5 18 rfl rfl)
theorem dX0_river_140 : decode cX0_river 140 = .ok (.iconst 3, 1) := dk_6 (dk_at dksX0_river_5 21 rfl rfl)
theorem dX0_river_141 : decode cX0_river 141 = .ok (.iload_n 2, 1) := dk_28 (dk_at dksX0_river_5 22 rfl rfl)
theorem dX0_river_142 : decode cX0_river 142 = .ok (.imul, 1) := dk_104 (dk_at dksX0_river_5 23 rfl rfl)
theorem dX0_river_143 : decode cX0_river 143 = .ok (.iconst 2, 1) := dk_5 (dk_at dksX0_river_6 0 rfl rfl)
theorem dX0_river_144 : decode cX0_river 144 = .ok (.iadd, 1) := dk_96 (dk_at dksX0_river_6 1 rfl rfl)
theorem dX0_river_145 : decode cX0_river 145 = .ok (.iaload, 1) := dk_46 (dk_at dksX0_river_6 2 rfl rfl)
theorem dX0_river_146 : decode cX0_river 146 = .ok (.iastore, 1) := dk_79 (dk_at dksX0_river_6 3 rfl rfl)
theorem dX0_river_147 : decode cX0_river 147 = .ok (.iinc 2 1, 3) := dk_132 2 1 (dk_at dksX0_river_6 4 rfl rfl)
theorem dX0_river_150 : decode cX0_river 150 = .ok (.goto (-67), 3) := dk_167 255 189 (dk_at dksX0_river_6 7 rfl rfl)
theorem dX0_river_153 : decode cX0_river 153 = .ok (.aload_n 0, 1) := dk_42 (dk_at dksX0_river_6 10 rfl rfl)
theorem dX0_river_154 : decode cX0_river 154 = .ok (.iconst 0, 1) := dk_3 (dk_at dksX0_river_6 11 rfl rfl)
theorem dX0_river_155 : decode cX0_river 155 = .ok (.putfield 202, 3) := dk_181 0 202 (dk_at dksX0_river_6 12 rfl rfl)
theorem dX0_river_158 : decode cX0_river 158 = .ok (.iconst 0, 1) := dk_3 (dk_at dksX0_river_6 15 rfl rfl)
theorem dX0_river_159 : decode cX0_river 159 = .ok (.istore_n 2, 1) := dk_61 (dk_at dksX0_river_6 16 rfl rfl)
theorem dX0_river_160 : decode cX0_river 160 = .ok (.iload_n 2, 1) := dk_28 (dk_at dksX0_river_6 17 rfl rfl)
theorem dX0_river_161 : decode cX0_river 161 = .ok (.aload_n 0, 1) := dk_42 (dk_at dksX0_river_6 18 rfl rfl)
theorem dX0_river_162 : decode cX0_river 162 = .ok (.getfield 50, 3) := dk_180 0 50 (dk_at dksX0_river_6 19 rfl rfl)
theorem dX0_river_165 : decode cX0_river 165 = .ok (.arraylength, 1) := dk_190 (dk_at dksX0_river_6 22 rfl rfl)
theorem dX0_river_166 : decode cX0_river 166 = .ok (.if_icmp .ge 16, 3) := dk_162 0 16 (dk_at dksX0_river_7 0 rfl rfl)
theorem dX0_river_169 : decode cX0_river 169 = .ok (.aload_n 0, 1) := dk_42 (dk_at dksX0_river_7 3 rfl rfl)
theorem dX0_river_170 : decode cX0_river 170 = .ok (.getfield 50, 3) := dk_180 0 50 (dk_at dksX0_river_7 4 rfl rfl)
theorem dX0_river_173 : decode cX0_river 173 = .ok (.iload_n 2, 1) := dk_28 (dk_at dksX0_river_7 7 rfl rfl)
theorem dX0_river_174 : decode cX0_river 174 = .ok (.aconst_null, 1) := dk_1 (dk_at dksX0_river_7 8 rfl rfl)
theorem dX0_river_175 : decode cX0_river 175 = .ok (.aastore, 1) := dk_83 (dk_at dksX0_river_7 9 rfl rfl)
theorem dX0_river_176 : decode cX0_river 176 = .ok (.iinc 2 1, 3) := dk_132 2 1 (dk_at dksX0_river_7 10 rfl rfl)
theorem dX0_river_179 : decode cX0_river 179 = .ok (.goto (-19), 3) := dk_167 255 237 (dk_at dksX0_river_7 13 rfl rfl)
theorem dX0_river_182 : decode cX0_river 182 = .ok (.aload_n 0, 1) := dk_42 (dk_at dksX0_river_7 16 rfl rfl)
theorem dX0_river_183 : decode cX0_river 183 = .ok (.getfield 116, 3) := dk_180 0 116 (dk_at dksX0_river_7 17 rfl rfl)
theorem dX0_river_186 : decode cX0_river 186 = .ok (.ireturn, 1) := dk_172 (dk_at dksX0_river_7 20 rfl rfl)
abbrev cX0_make : ByteArray := prog_1_method_20_code
def yX0_make : MethodName := ⟨RX0, "make", "(II)LDareFord$Person;"⟩
def dkwX0_make_4 : List UInt8 := [183, 0, 112, 176, 187, 0, 113, 89, 42, 28, 183, 0, 115, 176]
abbrev dktX0_make_4 : List UInt8 := dkwX0_make_4 ++ []
def dkwX0_make_3 : List UInt8 := [42, 28, 183, 0, 106, 176, 187, 0, 107, 89, 42, 28, 183, 0, 109, 176, 187, 0, 110, 89, 42, 28]
abbrev dktX0_make_3 : List UInt8 := dkwX0_make_3 ++ dktX0_make_4
def dkwX0_make_2 : List UInt8 := [187, 0, 35, 89, 42, 28, 183, 0, 98, 176, 187, 0, 101, 89, 42, 28, 183, 0, 103, 176, 187, 0, 104, 89]
abbrev dktX0_make_2 : List UInt8 := dkwX0_make_2 ++ dktX0_make_3
def dkwX0_make_1 : List UInt8 := [170, 0, 0, 0, 0, 0, 85, 0, 0, 0, 0, 0, 0, 0, 4, 0, 0, 0, 35, 0, 0, 0, 45, 0, 0, 0, 55, 0, 0, 0, 65, 0, 0, 0, 75]
abbrev dktX0_make_1 : List UInt8 := dkwX0_make_1 ++ dktX0_make_2
def dkwX0_make_0 : List UInt8 := [27]
abbrev dktX0_make_0 : List UInt8 := dkwX0_make_0 ++ dktX0_make_1
theorem dksX0_make_0 : cX0_make.data.toList.drop 0 = dktX0_make_0 := by decide +kernel
theorem dksX0_make_1 : cX0_make.data.toList.drop 1 = dktX0_make_1 := dk_seg dksX0_make_0 1 rfl rfl
theorem dksX0_make_2 : cX0_make.data.toList.drop 36 = dktX0_make_2 := dk_seg dksX0_make_1 35 rfl rfl
theorem dksX0_make_3 : cX0_make.data.toList.drop 60 = dktX0_make_3 := dk_seg dksX0_make_2 24 rfl rfl
theorem dksX0_make_4 : cX0_make.data.toList.drop 82 = dktX0_make_4 := dk_seg dksX0_make_3 22 rfl rfl
theorem dX0_make_0 : decode cX0_make 0 = .ok (.iload_n 1, 1) := dk_27 (dk_at dksX0_make_0 0 rfl rfl)
theorem dX0_make_1 : decode cX0_make 1 = .ok (.tableswitch 85 0 4 #[35, 45, 55, 65, 75], 35) := by decide +kernel
theorem dX0_make_36 : decode cX0_make 36 = .ok (.new 35, 3) := dk_187 0 35 (dk_at dksX0_make_2 0 rfl rfl)
theorem dX0_make_39 : decode cX0_make 39 = .ok (.dup, 1) := dk_89 (dk_at dksX0_make_2 3 rfl rfl)
theorem dX0_make_40 : decode cX0_make 40 = .ok (.aload_n 0, 1) := dk_42 (dk_at dksX0_make_2 4 rfl rfl)
theorem dX0_make_41 : decode cX0_make 41 = .ok (.iload_n 2, 1) := dk_28 (dk_at dksX0_make_2 5 rfl rfl)
theorem dX0_make_42 : decode cX0_make 42 = .ok (.invokespecial 98, 3) := dk_183 0 98 (dk_at dksX0_make_2 6 rfl rfl)
theorem dX0_make_45 : decode cX0_make 45 = .ok (.areturn, 1) := dk_176 (dk_at dksX0_make_2 9 rfl rfl)
theorem dX0_make_46 : decode cX0_make 46 = .ok (.new 101, 3) := dk_187 0 101 (dk_at dksX0_make_2 10 rfl rfl)
theorem dX0_make_49 : decode cX0_make 49 = .ok (.dup, 1) := dk_89 (dk_at dksX0_make_2 13 rfl rfl)
theorem dX0_make_50 : decode cX0_make 50 = .ok (.aload_n 0, 1) := dk_42 (dk_at dksX0_make_2 14 rfl rfl)
theorem dX0_make_51 : decode cX0_make 51 = .ok (.iload_n 2, 1) := dk_28 (dk_at dksX0_make_2 15 rfl rfl)
theorem dX0_make_52 : decode cX0_make 52 = .ok (.invokespecial 103, 3) := dk_183 0 103 (dk_at dksX0_make_2 16 rfl rfl)
theorem dX0_make_55 : decode cX0_make 55 = .ok (.areturn, 1) := dk_176 (dk_at dksX0_make_2 19 rfl rfl)
theorem dX0_make_56 : decode cX0_make 56 = .ok (.new 104, 3) := dk_187 0 104 (dk_at dksX0_make_2 20 rfl rfl)
theorem dX0_make_59 : decode cX0_make 59 = .ok (.dup, 1) := dk_89 (dk_at dksX0_make_2 23 rfl rfl)
theorem dX0_make_60 : decode cX0_make 60 = .ok (.aload_n 0, 1) := dk_42 (dk_at dksX0_make_3 0 rfl rfl)
theorem dX0_make_61 : decode cX0_make 61 = .ok (.iload_n 2, 1) := dk_28 (dk_at dksX0_make_3 1 rfl rfl)
theorem dX0_make_62 : decode cX0_make 62 = .ok (.invokespecial 106, 3) := dk_183 0 106 (dk_at dksX0_make_3 2 rfl rfl)
theorem dX0_make_65 : decode cX0_make 65 = .ok (.areturn, 1) := dk_176 (dk_at dksX0_make_3 5 rfl rfl)
theorem dX0_make_66 : decode cX0_make 66 = .ok (.new 107, 3) := dk_187 0 107 (dk_at dksX0_make_3 6 rfl rfl)
theorem dX0_make_69 : decode cX0_make 69 = .ok (.dup, 1) := dk_89 (dk_at dksX0_make_3 9 rfl rfl)
theorem dX0_make_70 : decode cX0_make 70 = .ok (.aload_n 0, 1) := dk_42 (dk_at dksX0_make_3 10 rfl rfl)
theorem dX0_make_71 : decode cX0_make 71 = .ok (.iload_n 2, 1) := dk_28 (dk_at dksX0_make_3 11 rfl rfl)
theorem dX0_make_72 : decode cX0_make 72 = .ok (.invokespecial 109, 3) := dk_183 0 109 (dk_at dksX0_make_3 12 rfl rfl)
theorem dX0_make_75 : decode cX0_make 75 = .ok (.areturn, 1) := dk_176 (dk_at dksX0_make_3 15 rfl rfl)
theorem dX0_make_76 : decode cX0_make 76 = .ok (.new 110, 3) := dk_187 0 110 (dk_at dksX0_make_3 16 rfl rfl)
theorem dX0_make_79 : decode cX0_make 79 = .ok (.dup, 1) := dk_89 (dk_at dksX0_make_3 19 rfl rfl)
theorem dX0_make_80 : decode cX0_make 80 = .ok (.aload_n 0, 1) := dk_42 (dk_at dksX0_make_3 20 rfl rfl)
theorem dX0_make_81 : decode cX0_make 81 = .ok (.iload_n 2, 1) := dk_28 (dk_at dksX0_make_3 21 rfl rfl)
theorem dX0_make_82 : decode cX0_make 82 = .ok (.invokespecial 112, 3) := dk_183 0 112 (dk_at dksX0_make_4 0 rfl rfl)
theorem dX0_make_85 : decode cX0_make 85 = .ok (.areturn, 1) := dk_176 (dk_at dksX0_make_4 3 rfl rfl)
theorem dX0_make_86 : decode cX0_make 86 = .ok (.new 113, 3) := dk_187 0 113 (dk_at dksX0_make_4 4 rfl rfl)
theorem dX0_make_89 : decode cX0_make 89 = .ok (.dup, 1) := dk_89 (dk_at dksX0_make_4 7 rfl rfl)
theorem dX0_make_90 : decode cX0_make 90 = .ok (.aload_n 0, 1) := dk_42 (dk_at dksX0_make_4 8 rfl rfl)
theorem dX0_make_91 : decode cX0_make 91 = .ok (.iload_n 2, 1) := dk_28 (dk_at dksX0_make_4 9 rfl rfl)
theorem dX0_make_92 : decode cX0_make 92 = .ok (.invokespecial 115, 3) := dk_183 0 115 (dk_at dksX0_make_4 10 rfl rfl)
theorem dX0_make_95 : decode cX0_make 95 = .ok (.areturn, 1) := dk_176 (dk_at dksX0_make_4 13 rfl rfl)
abbrev cX0_one : ByteArray := prog_1_method_41_code
def yX0_one : MethodName := ⟨RX0, "one", "(II)I"⟩
def dkwX0_one_1 : List UInt8 := [4, 182, 0, 79, 167, 0, 4, 2, 172]
abbrev dktX0_one_1 : List UInt8 := dkwX0_one_1 ++ []
def dkwX0_one_0 : List UInt8 := [42, 27, 182, 0, 208, 153, 0, 26, 28, 3, 8, 184, 0, 65, 153, 0, 17, 42, 42, 27, 28, 182, 0, 211]
abbrev dktX0_one_0 : List UInt8 := dkwX0_one_0 ++ dktX0_one_1
theorem dksX0_one_0 : cX0_one.data.toList.drop 0 = dktX0_one_0 := by decide +kernel
theorem dksX0_one_1 : cX0_one.data.toList.drop 24 = dktX0_one_1 := dk_seg dksX0_one_0 24 rfl rfl
theorem dX0_one_0 : decode cX0_one 0 = .ok (.aload_n 0, 1) := dk_42 (dk_at dksX0_one_0 0 rfl rfl)
theorem dX0_one_1 : decode cX0_one 1 = .ok (.iload_n 1, 1) := dk_27 (dk_at dksX0_one_0 1 rfl rfl)
theorem dX0_one_2 : decode cX0_one 2 = .ok (.invokevirtual 208, 3) := dk_182 0 208 (dk_at dksX0_one_0 2 rfl rfl)
theorem dX0_one_5 : decode cX0_one 5 = .ok (.ifCond .eq 26, 3) := dk_153 0 26 (dk_at dksX0_one_0 5 rfl rfl)
theorem dX0_one_8 : decode cX0_one 8 = .ok (.iload_n 2, 1) := dk_28 (dk_at dksX0_one_0 8 rfl rfl)
theorem dX0_one_9 : decode cX0_one 9 = .ok (.iconst 0, 1) := dk_3 (dk_at dksX0_one_0 9 rfl rfl)
theorem dX0_one_10 : decode cX0_one 10 = .ok (.iconst 5, 1) := dk_8 (dk_at dksX0_one_0 10 rfl rfl)
theorem dX0_one_11 : decode cX0_one 11 = .ok (.invokestatic 65, 3) := dk_184 0 65 (dk_at dksX0_one_0 11 rfl rfl)
theorem dX0_one_14 : decode cX0_one 14 = .ok (.ifCond .eq 17, 3) := dk_153 0 17 (dk_at dksX0_one_0 14 rfl rfl)
theorem dX0_one_17 : decode cX0_one 17 = .ok (.aload_n 0, 1) := dk_42 (dk_at dksX0_one_0 17 rfl rfl)
theorem dX0_one_18 : decode cX0_one 18 = .ok (.aload_n 0, 1) := dk_42 (dk_at dksX0_one_0 18 rfl rfl)
theorem dX0_one_19 : decode cX0_one 19 = .ok (.iload_n 1, 1) := dk_27 (dk_at dksX0_one_0 19 rfl rfl)
theorem dX0_one_20 : decode cX0_one 20 = .ok (.iload_n 2, 1) := dk_28 (dk_at dksX0_one_0 20 rfl rfl)
theorem dX0_one_21 : decode cX0_one 21 = .ok (.invokevirtual 211, 3) := dk_182 0 211 (dk_at dksX0_one_0 21 rfl rfl)
theorem dX0_one_24 : decode cX0_one 24 = .ok (.iconst 1, 1) := dk_4 (dk_at dksX0_one_1 0 rfl rfl)
theorem dX0_one_25 : decode cX0_one 25 = .ok (.invokevirtual 79, 3) := dk_182 0 79 (dk_at dksX0_one_1 1 rfl rfl)
theorem dX0_one_28 : decode cX0_one 28 = .ok (.goto 4, 3) := dk_167 0 4 (dk_at dksX0_one_1 4 rfl rfl)
theorem dX0_one_31 : decode cX0_one 31 = .ok (.iconst (-1), 1) := dk_2 (dk_at dksX0_one_1 7 rfl rfl)
theorem dX0_one_32 : decode cX0_one 32 = .ok (.ireturn, 1) := dk_172 (dk_at dksX0_one_1 8 rfl rfl)
abbrev cX0_isOne : ByteArray := prog_1_method_21_code
def yX0_isOne : MethodName := ⟨RX0, "isOne", "(I)Z"⟩
def dkwX0_isOne_0 : List UInt8 := [27, 3, 42, 180, 0, 116, 4, 100, 184, 0, 65, 172]
abbrev dktX0_isOne_0 : List UInt8 := dkwX0_isOne_0 ++ []
theorem dksX0_isOne_0 : cX0_isOne.data.toList.drop 0 = dktX0_isOne_0 := by decide +kernel
theorem dX0_isOne_0 : decode cX0_isOne 0 = .ok (.iload_n 1, 1) := dk_27 (dk_at dksX0_isOne_0 0 rfl rfl)
theorem dX0_isOne_1 : decode cX0_isOne 1 = .ok (.iconst 0, 1) := dk_3 (dk_at dksX0_isOne_0 1 rfl rfl)
theorem dX0_isOne_2 : decode cX0_isOne 2 = .ok (.aload_n 0, 1) := dk_42 (dk_at dksX0_isOne_0 2 rfl rfl)
theorem dX0_isOne_3 : decode cX0_isOne 3 = .ok (.getfield 116, 3) := dk_180 0 116 (dk_at dksX0_isOne_0 3 rfl rfl)
theorem dX0_isOne_6 : decode cX0_isOne 6 = .ok (.iconst 1, 1) := dk_4 (dk_at dksX0_isOne_0 6 rfl rfl)
theorem dX0_isOne_7 : decode cX0_isOne 7 = .ok (.isub, 1) := dk_100 (dk_at dksX0_isOne_0 7 rfl rfl)
theorem dX0_isOne_8 : decode cX0_isOne 8 = .ok (.invokestatic 65, 3) := dk_184 0 65 (dk_at dksX0_isOne_0 8 rfl rfl)
theorem dX0_isOne_11 : decode cX0_isOne 11 = .ok (.ireturn, 1) := dk_172 (dk_at dksX0_isOne_0 11 rfl rfl)
abbrev cX0_oneTells : ByteArray := prog_1_method_40_code
def yX0_oneTells : MethodName := ⟨RX0, "oneTells", "(II)I"⟩
def dkwX0_oneTells_4 : List UInt8 := [27, 182, 0, 134, 172]
abbrev dktX0_oneTells_4 : List UInt8 := dkwX0_oneTells_4 ++ []
def dkwX0_oneTells_3 : List UInt8 := [5, 27, 96, 46, 172, 42, 3, 27, 182, 0, 145, 172, 42, 180, 0, 41, 16, 14, 27, 96, 46, 172, 42, 3]
abbrev dktX0_oneTells_3 : List UInt8 := dkwX0_oneTells_3 ++ dktX0_oneTells_4
def dkwX0_oneTells_2 : List UInt8 := [42, 180, 0, 37, 27, 50, 182, 0, 205, 172, 42, 180, 0, 41, 16, 8, 27, 96, 46, 172, 42, 180, 0, 41]
abbrev dktX0_oneTells_2 : List UInt8 := dkwX0_oneTells_2 ++ dktX0_oneTells_3
def dkwX0_oneTells_1 : List UInt8 := [170, 0, 0, 0, 0, 0, 81, 0, 0, 0, 0, 0, 0, 0, 4, 0, 0, 0, 35, 0, 0, 0, 45, 0, 0, 0, 55, 0, 0, 0, 64, 0, 0, 0, 71]
abbrev dktX0_oneTells_1 : List UInt8 := dkwX0_oneTells_1 ++ dktX0_oneTells_2
def dkwX0_oneTells_0 : List UInt8 := [28]
abbrev dktX0_oneTells_0 : List UInt8 := dkwX0_oneTells_0 ++ dktX0_oneTells_1
theorem dksX0_oneTells_0 : cX0_oneTells.data.toList.drop 0 = dktX0_oneTells_0 := by decide +kernel
theorem dksX0_oneTells_1 : cX0_oneTells.data.toList.drop 1 = dktX0_oneTells_1 := dk_seg dksX0_oneTells_0 1 rfl rfl
theorem dksX0_oneTells_2 : cX0_oneTells.data.toList.drop 36 = dktX0_oneTells_2 := dk_seg dksX0_oneTells_1 35 rfl rfl
theorem dksX0_oneTells_3 : cX0_oneTells.data.toList.drop 60 = dktX0_oneTells_3 := dk_seg dksX0_oneTells_2 24 rfl rfl
theorem dksX0_oneTells_4 : cX0_oneTells.data.toList.drop 84 = dktX0_oneTells_4 := dk_seg dksX0_oneTells_3 24 rfl rfl
theorem dX0_oneTells_0 : decode cX0_oneTells 0 = .ok (.iload_n 2, 1) := dk_28 (dk_at dksX0_oneTells_0 0 rfl rfl)
theorem dX0_oneTells_1 : decode cX0_oneTells 1 = .ok (.tableswitch 81 0 4 #[35, 45, 55, 64, 71], 35) := by decide +kernel
theorem dX0_oneTells_36 : decode cX0_oneTells 36 = .ok (.aload_n 0, 1) := dk_42 (dk_at dksX0_oneTells_2 0 rfl rfl)
theorem dX0_oneTells_37 : decode cX0_oneTells 37 = .ok (.getfield 37, 3) := dk_180 0 37 (dk_at dksX0_oneTells_2 1 rfl rfl)
theorem dX0_oneTells_40 : decode cX0_oneTells 40 = .ok (.iload_n 1, 1) := dk_27 (dk_at dksX0_oneTells_2 4 rfl rfl)
theorem dX0_oneTells_41 : decode cX0_oneTells 41 = .ok (.aaload, 1) := dk_50 (dk_at dksX0_oneTells_2 5 rfl rfl)
theorem dX0_oneTells_42 : decode cX0_oneTells 42 = .ok (.invokevirtual 205, 3) := dk_182 0 205 (dk_at dksX0_oneTells_2 6 rfl rfl)
theorem dX0_oneTells_45 : decode cX0_oneTells 45 = .ok (.ireturn, 1) := dk_172 (dk_at dksX0_oneTells_2 9 rfl rfl)
theorem dX0_oneTells_46 : decode cX0_oneTells 46 = .ok (.aload_n 0, 1) := dk_42 (dk_at dksX0_oneTells_2 10 rfl rfl)
theorem dX0_oneTells_47 : decode cX0_oneTells 47 = .ok (.getfield 41, 3) := dk_180 0 41 (dk_at dksX0_oneTells_2 11 rfl rfl)
theorem dX0_oneTells_50 : decode cX0_oneTells 50 = .ok (.bipush 8, 2) := dk_16 8 (dk_at dksX0_oneTells_2 14 rfl rfl)
theorem dX0_oneTells_52 : decode cX0_oneTells 52 = .ok (.iload_n 1, 1) := dk_27 (dk_at dksX0_oneTells_2 16 rfl rfl)
theorem dX0_oneTells_53 : decode cX0_oneTells 53 = .ok (.iadd, 1) := dk_96 (dk_at dksX0_oneTells_2 17 rfl rfl)
theorem dX0_oneTells_54 : decode cX0_oneTells 54 = .ok (.iaload, 1) := dk_46 (dk_at dksX0_oneTells_2 18 rfl rfl)
theorem dX0_oneTells_55 : decode cX0_oneTells 55 = .ok (.ireturn, 1) := dk_172 (dk_at dksX0_oneTells_2 19 rfl rfl)
theorem dX0_oneTells_56 : decode cX0_oneTells 56 = .ok (.aload_n 0, 1) := dk_42 (dk_at dksX0_oneTells_2 20 rfl rfl)
theorem dX0_oneTells_57 : decode cX0_oneTells 57 = .ok (.getfield 41, 3) := dk_180 0 41 (dk_at dksX0_oneTells_2 21 rfl rfl)
theorem dX0_oneTells_60 : decode cX0_oneTells 60 = .ok (.iconst 2, 1) := dk_5 (dk_at dksX0_oneTells_3 0 rfl rfl)
theorem dX0_oneTells_61 : decode cX0_oneTells 61 = .ok (.iload_n 1, 1) := dk_27 (dk_at dksX0_oneTells_3 1 rfl rfl)
theorem dX0_oneTells_62 : decode cX0_oneTells 62 = .ok (.iadd, 1) := dk_96 (dk_at dksX0_oneTells_3 2 rfl rfl)
theorem dX0_oneTells_63 : decode cX0_oneTells 63 = .ok (.iaload, 1) := dk_46 (dk_at dksX0_oneTells_3 3 rfl rfl)
theorem dX0_oneTells_64 : decode cX0_oneTells 64 = .ok (.ireturn, 1) := dk_172 (dk_at dksX0_oneTells_3 4 rfl rfl)
theorem dX0_oneTells_65 : decode cX0_oneTells 65 = .ok (.aload_n 0, 1) := dk_42 (dk_at dksX0_oneTells_3 5 rfl rfl)
theorem dX0_oneTells_66 : decode cX0_oneTells 66 = .ok (.iconst 0, 1) := dk_3 (dk_at dksX0_oneTells_3 6 rfl rfl)
theorem dX0_oneTells_67 : decode cX0_oneTells 67 = .ok (.iload_n 1, 1) := dk_27 (dk_at dksX0_oneTells_3 7 rfl rfl)
theorem dX0_oneTells_68 : decode cX0_oneTells 68 = .ok (.invokevirtual 145, 3) := dk_182 0 145 (dk_at dksX0_oneTells_3 8 rfl rfl)
theorem dX0_oneTells_71 : decode cX0_oneTells 71 = .ok (.ireturn, 1) := dk_172 (dk_at dksX0_oneTells_3 11 rfl rfl)
theorem dX0_oneTells_72 : decode cX0_oneTells 72 = .ok (.aload_n 0, 1) := dk_42 (dk_at dksX0_oneTells_3 12 rfl rfl)
theorem dX0_oneTells_73 : decode cX0_oneTells 73 = .ok (.getfield 41, 3) := dk_180 0 41 (dk_at dksX0_oneTells_3 13 rfl rfl)
theorem dX0_oneTells_76 : decode cX0_oneTells 76 = .ok (.bipush 14, 2) := dk_16 14 (dk_at dksX0_oneTells_3 16 rfl rfl)
theorem dX0_oneTells_78 : decode cX0_oneTells 78 = .ok (.iload_n 1, 1) := dk_27 (dk_at dksX0_oneTells_3 18 rfl rfl)
theorem dX0_oneTells_79 : decode cX0_oneTells 79 = .ok (.iadd, 1) := dk_96 (dk_at dksX0_oneTells_3 19 rfl rfl)
theorem dX0_oneTells_80 : decode cX0_oneTells 80 = .ok (.iaload, 1) := dk_46 (dk_at dksX0_oneTells_3 20 rfl rfl)
theorem dX0_oneTells_81 : decode cX0_oneTells 81 = .ok (.ireturn, 1) := dk_172 (dk_at dksX0_oneTells_3 21 rfl rfl)
theorem dX0_oneTells_82 : decode cX0_oneTells 82 = .ok (.aload_n 0, 1) := dk_42 (dk_at dksX0_oneTells_3 22 rfl rfl)
theorem dX0_oneTells_83 : decode cX0_oneTells 83 = .ok (.iconst 0, 1) := dk_3 (dk_at dksX0_oneTells_3 23 rfl rfl)
theorem dX0_oneTells_84 : decode cX0_oneTells 84 = .ok (.iload_n 1, 1) := dk_27 (dk_at dksX0_oneTells_4 0 rfl rfl)
theorem dX0_oneTells_85 : decode cX0_oneTells 85 = .ok (.invokevirtual 134, 3) := dk_182 0 134 (dk_at dksX0_oneTells_4 1 rfl rfl)
theorem dX0_oneTells_88 : decode cX0_oneTells 88 = .ok (.ireturn, 1) := dk_172 (dk_at dksX0_oneTells_4 4 rfl rfl)
abbrev cX0_daresOn : ByteArray := prog_1_method_26_code
def yX0_daresOn : MethodName := ⟨RX0, "daresOn", "(II)I"⟩
def dkwX0_daresOn_1 : List UInt8 := [16, 20, 27, 104, 3, 96, 46, 42, 27, 28, 182, 0, 134, 184, 0, 137, 172]
abbrev dktX0_daresOn_1 : List UInt8 := dkwX0_daresOn_1 ++ []
def dkwX0_daresOn_0 : List UInt8 := [42, 180, 0, 37, 28, 50, 42, 180, 0, 41, 16, 20, 27, 104, 5, 96, 28, 96, 46, 42, 180, 0, 41]
abbrev dktX0_daresOn_0 : List UInt8 := dkwX0_daresOn_0 ++ dktX0_daresOn_1
theorem dksX0_daresOn_0 : cX0_daresOn.data.toList.drop 0 = dktX0_daresOn_0 := by decide +kernel
theorem dksX0_daresOn_1 : cX0_daresOn.data.toList.drop 23 = dktX0_daresOn_1 := dk_seg dksX0_daresOn_0 23 rfl rfl
theorem dX0_daresOn_0 : decode cX0_daresOn 0 = .ok (.aload_n 0, 1) := dk_42 (dk_at dksX0_daresOn_0 0 rfl rfl)
theorem dX0_daresOn_1 : decode cX0_daresOn 1 = .ok (.getfield 37, 3) := dk_180 0 37 (dk_at dksX0_daresOn_0 1 rfl rfl)
theorem dX0_daresOn_4 : decode cX0_daresOn 4 = .ok (.iload_n 2, 1) := dk_28 (dk_at dksX0_daresOn_0 4 rfl rfl)
theorem dX0_daresOn_5 : decode cX0_daresOn 5 = .ok (.aaload, 1) := dk_50 (dk_at dksX0_daresOn_0 5 rfl rfl)
theorem dX0_daresOn_6 : decode cX0_daresOn 6 = .ok (.aload_n 0, 1) := dk_42 (dk_at dksX0_daresOn_0 6 rfl rfl)
theorem dX0_daresOn_7 : decode cX0_daresOn 7 = .ok (.getfield 41, 3) := dk_180 0 41 (dk_at dksX0_daresOn_0 7 rfl rfl)
theorem dX0_daresOn_10 : decode cX0_daresOn 10 = .ok (.bipush 20, 2) := dk_16 20 (dk_at dksX0_daresOn_0 10 rfl rfl)
theorem dX0_daresOn_12 : decode cX0_daresOn 12 = .ok (.iload_n 1, 1) := dk_27 (dk_at dksX0_daresOn_0 12 rfl rfl)
theorem dX0_daresOn_13 : decode cX0_daresOn 13 = .ok (.imul, 1) := dk_104 (dk_at dksX0_daresOn_0 13 rfl rfl)
theorem dX0_daresOn_14 : decode cX0_daresOn 14 = .ok (.iconst 2, 1) := dk_5 (dk_at dksX0_daresOn_0 14 rfl rfl)
theorem dX0_daresOn_15 : decode cX0_daresOn 15 = .ok (.iadd, 1) := dk_96 (dk_at dksX0_daresOn_0 15 rfl rfl)
theorem dX0_daresOn_16 : decode cX0_daresOn 16 = .ok (.iload_n 2, 1) := dk_28 (dk_at dksX0_daresOn_0 16 rfl rfl)
theorem dX0_daresOn_17 : decode cX0_daresOn 17 = .ok (.iadd, 1) := dk_96 (dk_at dksX0_daresOn_0 17 rfl rfl)
theorem dX0_daresOn_18 : decode cX0_daresOn 18 = .ok (.iaload, 1) := dk_46 (dk_at dksX0_daresOn_0 18 rfl rfl)
theorem dX0_daresOn_19 : decode cX0_daresOn 19 = .ok (.aload_n 0, 1) := dk_42 (dk_at dksX0_daresOn_0 19 rfl rfl)
theorem dX0_daresOn_20 : decode cX0_daresOn 20 = .ok (.getfield 41, 3) := dk_180 0 41 (dk_at dksX0_daresOn_0 20 rfl rfl)
theorem dX0_daresOn_23 : decode cX0_daresOn 23 = .ok (.bipush 20, 2) := dk_16 20 (dk_at dksX0_daresOn_1 0 rfl rfl)
theorem dX0_daresOn_25 : decode cX0_daresOn 25 = .ok (.iload_n 1, 1) := dk_27 (dk_at dksX0_daresOn_1 2 rfl rfl)
theorem dX0_daresOn_26 : decode cX0_daresOn 26 = .ok (.imul, 1) := dk_104 (dk_at dksX0_daresOn_1 3 rfl rfl)
theorem dX0_daresOn_27 : decode cX0_daresOn 27 = .ok (.iconst 0, 1) := dk_3 (dk_at dksX0_daresOn_1 4 rfl rfl)
theorem dX0_daresOn_28 : decode cX0_daresOn 28 = .ok (.iadd, 1) := dk_96 (dk_at dksX0_daresOn_1 5 rfl rfl)
theorem dX0_daresOn_29 : decode cX0_daresOn 29 = .ok (.iaload, 1) := dk_46 (dk_at dksX0_daresOn_1 6 rfl rfl)
theorem dX0_daresOn_30 : decode cX0_daresOn 30 = .ok (.aload_n 0, 1) := dk_42 (dk_at dksX0_daresOn_1 7 rfl rfl)
theorem dX0_daresOn_31 : decode cX0_daresOn 31 = .ok (.iload_n 1, 1) := dk_27 (dk_at dksX0_daresOn_1 8 rfl rfl)
theorem dX0_daresOn_32 : decode cX0_daresOn 32 = .ok (.iload_n 2, 1) := dk_28 (dk_at dksX0_daresOn_1 9 rfl rfl)
theorem dX0_daresOn_33 : decode cX0_daresOn 33 = .ok (.invokevirtual 134, 3) := dk_182 0 134 (dk_at dksX0_daresOn_1 10 rfl rfl)
theorem dX0_daresOn_36 : decode cX0_daresOn 36 = .ok (.invokestatic 137, 3) := dk_184 0 137 (dk_at dksX0_daresOn_1 13 rfl rfl)
theorem dX0_daresOn_39 : decode cX0_daresOn 39 = .ok (.ireturn, 1) := dk_172 (dk_at dksX0_daresOn_1 16 rfl rfl)
abbrev cX0_farOn : ByteArray := prog_1_method_25_code
def yX0_farOn : MethodName := ⟨RX0, "farOn", "(II)I"⟩
def dkwX0_farOn_1 : List UInt8 := [46, 100, 184, 0, 129, 172]
abbrev dktX0_farOn_1 : List UInt8 := dkwX0_farOn_1 ++ []
def dkwX0_farOn_0 : List UInt8 := [42, 180, 0, 41, 16, 20, 27, 104, 4, 96, 46, 42, 180, 0, 41, 16, 20, 27, 104, 16, 8, 96, 28, 96]
abbrev dktX0_farOn_0 : List UInt8 := dkwX0_farOn_0 ++ dktX0_farOn_1
theorem dksX0_farOn_0 : cX0_farOn.data.toList.drop 0 = dktX0_farOn_0 := by decide +kernel
theorem dksX0_farOn_1 : cX0_farOn.data.toList.drop 24 = dktX0_farOn_1 := dk_seg dksX0_farOn_0 24 rfl rfl
theorem dX0_farOn_0 : decode cX0_farOn 0 = .ok (.aload_n 0, 1) := dk_42 (dk_at dksX0_farOn_0 0 rfl rfl)
theorem dX0_farOn_1 : decode cX0_farOn 1 = .ok (.getfield 41, 3) := dk_180 0 41 (dk_at dksX0_farOn_0 1 rfl rfl)
theorem dX0_farOn_4 : decode cX0_farOn 4 = .ok (.bipush 20, 2) := dk_16 20 (dk_at dksX0_farOn_0 4 rfl rfl)
theorem dX0_farOn_6 : decode cX0_farOn 6 = .ok (.iload_n 1, 1) := dk_27 (dk_at dksX0_farOn_0 6 rfl rfl)
theorem dX0_farOn_7 : decode cX0_farOn 7 = .ok (.imul, 1) := dk_104 (dk_at dksX0_farOn_0 7 rfl rfl)
theorem dX0_farOn_8 : decode cX0_farOn 8 = .ok (.iconst 1, 1) := dk_4 (dk_at dksX0_farOn_0 8 rfl rfl)
theorem dX0_farOn_9 : decode cX0_farOn 9 = .ok (.iadd, 1) := dk_96 (dk_at dksX0_farOn_0 9 rfl rfl)
theorem dX0_farOn_10 : decode cX0_farOn 10 = .ok (.iaload, 1) := dk_46 (dk_at dksX0_farOn_0 10 rfl rfl)
theorem dX0_farOn_11 : decode cX0_farOn 11 = .ok (.aload_n 0, 1) := dk_42 (dk_at dksX0_farOn_0 11 rfl rfl)
theorem dX0_farOn_12 : decode cX0_farOn 12 = .ok (.getfield 41, 3) := dk_180 0 41 (dk_at dksX0_farOn_0 12 rfl rfl)
theorem dX0_farOn_15 : decode cX0_farOn 15 = .ok (.bipush 20, 2) := dk_16 20 (dk_at dksX0_farOn_0 15 rfl rfl)
theorem dX0_farOn_17 : decode cX0_farOn 17 = .ok (.iload_n 1, 1) := dk_27 (dk_at dksX0_farOn_0 17 rfl rfl)
theorem dX0_farOn_18 : decode cX0_farOn 18 = .ok (.imul, 1) := dk_104 (dk_at dksX0_farOn_0 18 rfl rfl)
theorem dX0_farOn_19 : decode cX0_farOn 19 = .ok (.bipush 8, 2) := dk_16 8 (dk_at dksX0_farOn_0 19 rfl rfl)
theorem dX0_farOn_21 : decode cX0_farOn 21 = .ok (.iadd, 1) := dk_96 (dk_at dksX0_farOn_0 21 rfl rfl)
theorem dX0_farOn_22 : decode cX0_farOn 22 = .ok (.iload_n 2, 1) := dk_28 (dk_at dksX0_farOn_0 22 rfl rfl)
theorem dX0_farOn_23 : decode cX0_farOn 23 = .ok (.iadd, 1) := dk_96 (dk_at dksX0_farOn_0 23 rfl rfl)
theorem dX0_farOn_24 : decode cX0_farOn 24 = .ok (.iaload, 1) := dk_46 (dk_at dksX0_farOn_1 0 rfl rfl)
theorem dX0_farOn_25 : decode cX0_farOn 25 = .ok (.isub, 1) := dk_100 (dk_at dksX0_farOn_1 1 rfl rfl)
theorem dX0_farOn_26 : decode cX0_farOn 26 = .ok (.invokestatic 129, 3) := dk_184 0 129 (dk_at dksX0_farOn_1 2 rfl rfl)
theorem dX0_farOn_29 : decode cX0_farOn 29 = .ok (.ireturn, 1) := dk_172 (dk_at dksX0_farOn_1 5 rfl rfl)
abbrev cX0_daredBy : ByteArray := prog_1_method_23_code
def yX0_daredBy : MethodName := ⟨RX0, "daredBy", "(LDareFord$Person;III)I"⟩
def dkwX0_daredBy_0 : List UInt8 := [42, 58, 4, 25, 4, 27, 28, 29, 185, 0, 119, 4, 0, 172]
abbrev dktX0_daredBy_0 : List UInt8 := dkwX0_daredBy_0 ++ []
theorem dksX0_daredBy_0 : cX0_daredBy.data.toList.drop 0 = dktX0_daredBy_0 := by decide +kernel
theorem dX0_daredBy_0 : decode cX0_daredBy 0 = .ok (.aload_n 0, 1) := dk_42 (dk_at dksX0_daredBy_0 0 rfl rfl)
theorem dX0_daredBy_1 : decode cX0_daredBy 1 = .ok (.astore 4, 2) := dk_58 4 (dk_at dksX0_daredBy_0 1 rfl rfl)
theorem dX0_daredBy_3 : decode cX0_daredBy 3 = .ok (.aload 4, 2) := dk_25 4 (dk_at dksX0_daredBy_0 3 rfl rfl)
theorem dX0_daredBy_5 : decode cX0_daredBy 5 = .ok (.iload_n 1, 1) := dk_27 (dk_at dksX0_daredBy_0 5 rfl rfl)
theorem dX0_daredBy_6 : decode cX0_daredBy 6 = .ok (.iload_n 2, 1) := dk_28 (dk_at dksX0_daredBy_0 6 rfl rfl)
theorem dX0_daredBy_7 : decode cX0_daredBy 7 = .ok (.iload_n 3, 1) := dk_29 (dk_at dksX0_daredBy_0 7 rfl rfl)
theorem dX0_daredBy_8 : decode cX0_daredBy 8 = .ok (.invokeinterface 119 4, 5) := by decide +kernel
theorem dX0_daredBy_13 : decode cX0_daredBy 13 = .ok (.ireturn, 1) := dk_172 (dk_at dksX0_daredBy_0 13 rfl rfl)
abbrev cX0_mark : ByteArray := prog_1_method_42_code
def yX0_mark : MethodName := ⟨RX0, "mark", "(II)I"⟩
def dkwX0_mark_7 : List UInt8 := [182, 0, 226, 172, 58, 4, 42, 6, 182, 0, 75, 172]
abbrev dktX0_mark_7 : List UInt8 := dkwX0_mark_7 ++ []
def dkwX0_mark_6 : List UInt8 := [182, 0, 224, 172, 45, 192, 0, 110, 58, 7, 25, 7, 182, 0, 225, 172, 45, 192, 0, 113, 58, 8, 25, 8]
abbrev dktX0_mark_6 : List UInt8 := dkwX0_mark_6 ++ dktX0_mark_7
def dkwX0_mark_5 : List UInt8 := [58, 6, 25, 6, 193, 0, 110, 153, 0, 14, 25, 6, 192, 0, 110, 182, 0, 221, 167, 0, 8, 25, 6]
abbrev dktX0_mark_5 : List UInt8 := dkwX0_mark_5 ++ dktX0_mark_6
def dkwX0_mark_4 : List UInt8 := [153, 0, 14, 25, 5, 192, 0, 113, 182, 0, 217, 167, 0, 8, 25, 5, 182, 0, 220, 172, 45, 192, 0, 107]
abbrev dktX0_mark_4 : List UInt8 := dkwX0_mark_4 ++ dktX0_mark_5
def dkwX0_mark_3 : List UInt8 := [45, 192, 0, 101, 58, 4, 25, 4, 182, 0, 214, 172, 45, 192, 0, 104, 58, 5, 25, 5, 193, 0, 113]
abbrev dktX0_mark_3 : List UInt8 := dkwX0_mark_3 ++ dktX0_mark_4
def dkwX0_mark_2 : List UInt8 := [170, 0, 0, 0, 115, 0, 0, 0, 1, 0, 0, 0, 4, 0, 0, 0, 29, 0, 0, 0, 41, 0, 0, 0, 72, 0, 0, 0, 103]
abbrev dktX0_mark_2 : List UInt8 := dkwX0_mark_2 ++ dktX0_mark_3
def dkwX0_mark_1 : List UInt8 := [50, 78, 28]
abbrev dktX0_mark_1 : List UInt8 := dkwX0_mark_1 ++ dktX0_mark_2
def dkwX0_mark_0 : List UInt8 := [42, 27, 182, 0, 208, 153, 0, 12, 28, 4, 8, 184, 0, 65, 154, 0, 5, 2, 172, 42, 180, 0, 37, 27]
abbrev dktX0_mark_0 : List UInt8 := dkwX0_mark_0 ++ dktX0_mark_1
theorem dksX0_mark_0 : cX0_mark.data.toList.drop 0 = dktX0_mark_0 := by decide +kernel
theorem dksX0_mark_1 : cX0_mark.data.toList.drop 24 = dktX0_mark_1 := dk_seg dksX0_mark_0 24 rfl rfl
theorem dksX0_mark_2 : cX0_mark.data.toList.drop 27 = dktX0_mark_2 := dk_seg dksX0_mark_1 3 rfl rfl
theorem dksX0_mark_3 : cX0_mark.data.toList.drop 56 = dktX0_mark_3 := dk_seg dksX0_mark_2 29 rfl rfl
theorem dksX0_mark_4 : cX0_mark.data.toList.drop 79 = dktX0_mark_4 := dk_seg dksX0_mark_3 23 rfl rfl
theorem dksX0_mark_5 : cX0_mark.data.toList.drop 103 = dktX0_mark_5 := dk_seg dksX0_mark_4 24 rfl rfl
theorem dksX0_mark_6 : cX0_mark.data.toList.drop 126 = dktX0_mark_6 := dk_seg dksX0_mark_5 23 rfl rfl
theorem dksX0_mark_7 : cX0_mark.data.toList.drop 150 = dktX0_mark_7 := dk_seg dksX0_mark_6 24 rfl rfl
theorem dX0_mark_0 : decode cX0_mark 0 = .ok (.aload_n 0, 1) := dk_42 (dk_at dksX0_mark_0 0 rfl rfl)
theorem dX0_mark_1 : decode cX0_mark 1 = .ok (.iload_n 1, 1) := dk_27 (dk_at dksX0_mark_0 1 rfl rfl)
theorem dX0_mark_2 : decode cX0_mark 2 = .ok (.invokevirtual 208, 3) := dk_182 0 208 (dk_at dksX0_mark_0 2 rfl rfl)
theorem dX0_mark_5 : decode cX0_mark 5 = .ok (.ifCond .eq 12, 3) := dk_153 0 12 (dk_at dksX0_mark_0 5 rfl rfl)
theorem dX0_mark_8 : decode cX0_mark 8 = .ok (.iload_n 2, 1) := dk_28 (dk_at dksX0_mark_0 8 rfl rfl)
theorem dX0_mark_9 : decode cX0_mark 9 = .ok (.iconst 1, 1) := dk_4 (dk_at dksX0_mark_0 9 rfl rfl)
theorem dX0_mark_10 : decode cX0_mark 10 = .ok (.iconst 5, 1) := dk_8 (dk_at dksX0_mark_0 10 rfl rfl)
theorem dX0_mark_11 : decode cX0_mark 11 = .ok (.invokestatic 65, 3) := dk_184 0 65 (dk_at dksX0_mark_0 11 rfl rfl)
theorem dX0_mark_14 : decode cX0_mark 14 = .ok (.ifCond .ne 5, 3) := dk_154 0 5 (dk_at dksX0_mark_0 14 rfl rfl)
theorem dX0_mark_17 : decode cX0_mark 17 = .ok (.iconst (-1), 1) := dk_2 (dk_at dksX0_mark_0 17 rfl rfl)
theorem dX0_mark_18 : decode cX0_mark 18 = .ok (.ireturn, 1) := dk_172 (dk_at dksX0_mark_0 18 rfl rfl)
theorem dX0_mark_19 : decode cX0_mark 19 = .ok (.aload_n 0, 1) := dk_42 (dk_at dksX0_mark_0 19 rfl rfl)
theorem dX0_mark_20 : decode cX0_mark 20 = .ok (.getfield 37, 3) := dk_180 0 37 (dk_at dksX0_mark_0 20 rfl rfl)
theorem dX0_mark_23 : decode cX0_mark 23 = .ok (.iload_n 1, 1) := dk_27 (dk_at dksX0_mark_0 23 rfl rfl)
theorem dX0_mark_24 : decode cX0_mark 24 = .ok (.aaload, 1) := dk_50 (dk_at dksX0_mark_1 0 rfl rfl)
theorem dX0_mark_25 : decode cX0_mark 25 = .ok (.astore_n 3, 1) := dk_78 (dk_at dksX0_mark_1 1 rfl rfl)
theorem dX0_mark_26 : decode cX0_mark 26 = .ok (.iload_n 2, 1) := dk_28 (dk_at dksX0_mark_1 2 rfl rfl)
theorem dX0_mark_27 : decode cX0_mark 27 = .ok (.tableswitch 115 1 4 #[29, 41, 72, 103], 29) := by decide +kernel
theorem dX0_mark_56 : decode cX0_mark 56 = .ok (.aload_n 3, 1) := dk_45 (dk_at dksX0_mark_3 0 rfl rfl)
theorem dX0_mark_57 : decode cX0_mark 57 = .ok (.checkcast 101, 3) := dk_192 0 101 (dk_at dksX0_mark_3 1 rfl rfl)
theorem dX0_mark_60 : decode cX0_mark 60 = .ok (.astore 4, 2) := dk_58 4 (dk_at dksX0_mark_3 4 rfl rfl)
theorem dX0_mark_62 : decode cX0_mark 62 = .ok (.aload 4, 2) := dk_25 4 (dk_at dksX0_mark_3 6 rfl rfl)
theorem dX0_mark_64 : decode cX0_mark 64 = .ok (.invokevirtual 214, 3) := dk_182 0 214 (dk_at dksX0_mark_3 8 rfl rfl)
theorem dX0_mark_67 : decode cX0_mark 67 = .ok (.ireturn, 1) := dk_172 (dk_at dksX0_mark_3 11 rfl rfl)
theorem dX0_mark_68 : decode cX0_mark 68 = .ok (.aload_n 3, 1) := dk_45 (dk_at dksX0_mark_3 12 rfl rfl)
theorem dX0_mark_69 : decode cX0_mark 69 = .ok (.checkcast 104, 3) := dk_192 0 104 (dk_at dksX0_mark_3 13 rfl rfl)
theorem dX0_mark_72 : decode cX0_mark 72 = .ok (.astore 5, 2) := dk_58 5 (dk_at dksX0_mark_3 16 rfl rfl)
theorem dX0_mark_74 : decode cX0_mark 74 = .ok (.aload 5, 2) := dk_25 5 (dk_at dksX0_mark_3 18 rfl rfl)
theorem dX0_mark_76 : decode cX0_mark 76 = .ok (.instanceof 113, 3) := dk_193 0 113 (dk_at dksX0_mark_3 20 rfl rfl)
theorem dX0_mark_79 : decode cX0_mark 79 = .ok (.ifCond .eq 14, 3) := dk_153 0 14 (dk_at dksX0_mark_4 0 rfl rfl)
theorem dX0_mark_82 : decode cX0_mark 82 = .ok (.aload 5, 2) := dk_25 5 (dk_at dksX0_mark_4 3 rfl rfl)
theorem dX0_mark_84 : decode cX0_mark 84 = .ok (.checkcast 113, 3) := dk_192 0 113 (dk_at dksX0_mark_4 5 rfl rfl)
theorem dX0_mark_87 : decode cX0_mark 87 = .ok (.invokevirtual 217, 3) := dk_182 0 217 (dk_at dksX0_mark_4 8 rfl rfl)
theorem dX0_mark_90 : decode cX0_mark 90 = .ok (.goto 8, 3) := dk_167 0 8 (dk_at dksX0_mark_4 11 rfl rfl)
theorem dX0_mark_93 : decode cX0_mark 93 = .ok (.aload 5, 2) := dk_25 5 (dk_at dksX0_mark_4 14 rfl rfl)
theorem dX0_mark_95 : decode cX0_mark 95 = .ok (.invokevirtual 220, 3) := dk_182 0 220 (dk_at dksX0_mark_4 16 rfl rfl)
theorem dX0_mark_98 : decode cX0_mark 98 = .ok (.ireturn, 1) := dk_172 (dk_at dksX0_mark_4 19 rfl rfl)
theorem dX0_mark_99 : decode cX0_mark 99 = .ok (.aload_n 3, 1) := dk_45 (dk_at dksX0_mark_4 20 rfl rfl)
theorem dX0_mark_100 : decode cX0_mark 100 = .ok (.checkcast 107, 3) := dk_192 0 107 (dk_at dksX0_mark_4 21 rfl rfl)
theorem dX0_mark_103 : decode cX0_mark 103 = .ok (.astore 6, 2) := dk_58 6 (dk_at dksX0_mark_5 0 rfl rfl)
theorem dX0_mark_105 : decode cX0_mark 105 = .ok (.aload 6, 2) := dk_25 6 (dk_at dksX0_mark_5 2 rfl rfl)
theorem dX0_mark_107 : decode cX0_mark 107 = .ok (.instanceof 110, 3) := dk_193 0 110 (dk_at dksX0_mark_5 4 rfl rfl)
theorem dX0_mark_110 : decode cX0_mark 110 = .ok (.ifCond .eq 14, 3) := dk_153 0 14 (dk_at dksX0_mark_5 7 rfl rfl)
theorem dX0_mark_113 : decode cX0_mark 113 = .ok (.aload 6, 2) := dk_25 6 (dk_at dksX0_mark_5 10 rfl rfl)
theorem dX0_mark_115 : decode cX0_mark 115 = .ok (.checkcast 110, 3) := dk_192 0 110 (dk_at dksX0_mark_5 12 rfl rfl)
theorem dX0_mark_118 : decode cX0_mark 118 = .ok (.invokevirtual 221, 3) := dk_182 0 221 (dk_at dksX0_mark_5 15 rfl rfl)
theorem dX0_mark_121 : decode cX0_mark 121 = .ok (.goto 8, 3) := dk_167 0 8 (dk_at dksX0_mark_5 18 rfl rfl)
theorem dX0_mark_124 : decode cX0_mark 124 = .ok (.aload 6, 2) := dk_25 6 (dk_at dksX0_mark_5 21 rfl rfl)
theorem dX0_mark_126 : decode cX0_mark 126 = .ok (.invokevirtual 224, 3) := dk_182 0 224 (dk_at dksX0_mark_6 0 rfl rfl)
theorem dX0_mark_129 : decode cX0_mark 129 = .ok (.ireturn, 1) := dk_172 (dk_at dksX0_mark_6 3 rfl rfl)
theorem dX0_mark_130 : decode cX0_mark 130 = .ok (.aload_n 3, 1) := dk_45 (dk_at dksX0_mark_6 4 rfl rfl)
theorem dX0_mark_131 : decode cX0_mark 131 = .ok (.checkcast 110, 3) := dk_192 0 110 (dk_at dksX0_mark_6 5 rfl rfl)
theorem dX0_mark_134 : decode cX0_mark 134 = .ok (.astore 7, 2) := dk_58 7 (dk_at dksX0_mark_6 8 rfl rfl)
theorem dX0_mark_136 : decode cX0_mark 136 = .ok (.aload 7, 2) := dk_25 7 (dk_at dksX0_mark_6 10 rfl rfl)
theorem dX0_mark_138 : decode cX0_mark 138 = .ok (.invokevirtual 225, 3) := dk_182 0 225 (dk_at dksX0_mark_6 12 rfl rfl)
theorem dX0_mark_141 : decode cX0_mark 141 = .ok (.ireturn, 1) := dk_172 (dk_at dksX0_mark_6 15 rfl rfl)
theorem dX0_mark_142 : decode cX0_mark 142 = .ok (.aload_n 3, 1) := dk_45 (dk_at dksX0_mark_6 16 rfl rfl)
theorem dX0_mark_143 : decode cX0_mark 143 = .ok (.checkcast 113, 3) := dk_192 0 113 (dk_at dksX0_mark_6 17 rfl rfl)
theorem dX0_mark_146 : decode cX0_mark 146 = .ok (.astore 8, 2) := dk_58 8 (dk_at dksX0_mark_6 20 rfl rfl)
theorem dX0_mark_148 : decode cX0_mark 148 = .ok (.aload 8, 2) := dk_25 8 (dk_at dksX0_mark_6 22 rfl rfl)
theorem dX0_mark_150 : decode cX0_mark 150 = .ok (.invokevirtual 226, 3) := dk_182 0 226 (dk_at dksX0_mark_7 0 rfl rfl)
theorem dX0_mark_153 : decode cX0_mark 153 = .ok (.ireturn, 1) := dk_172 (dk_at dksX0_mark_7 3 rfl rfl)
theorem dX0_mark_154 : decode cX0_mark 154 = .ok (.astore 4, 2) := dk_58 4 (dk_at dksX0_mark_7 4 rfl rfl)
theorem dX0_mark_156 : decode cX0_mark 156 = .ok (.aload_n 0, 1) := dk_42 (dk_at dksX0_mark_7 6 rfl rfl)
theorem dX0_mark_157 : decode cX0_mark 157 = .ok (.iconst 3, 1) := dk_6 (dk_at dksX0_mark_7 7 rfl rfl)
theorem dX0_mark_158 : decode cX0_mark 158 = .ok (.invokevirtual 75, 3) := dk_182 0 75 (dk_at dksX0_mark_7 8 rfl rfl)
theorem dX0_mark_161 : decode cX0_mark 161 = .ok (.ireturn, 1) := dk_172 (dk_at dksX0_mark_7 11 rfl rfl)
abbrev cX0_night : ByteArray := prog_1_method_45_code
def yX0_night : MethodName := ⟨RX0, "night", "()I"⟩
def dkwX0_night_1 : List UInt8 := [182, 0, 229, 42, 3, 182, 0, 232, 172]
abbrev dktX0_night_1 : List UInt8 := dkwX0_night_1 ++ []
def dkwX0_night_0 : List UInt8 := [42, 180, 0, 116, 154, 0, 6, 16, 252, 172, 42, 180, 0, 202, 16, 40, 160, 0, 6, 16, 254, 172, 42]
abbrev dktX0_night_0 : List UInt8 := dkwX0_night_0 ++ dktX0_night_1
theorem dksX0_night_0 : cX0_night.data.toList.drop 0 = dktX0_night_0 := by decide +kernel
theorem dksX0_night_1 : cX0_night.data.toList.drop 23 = dktX0_night_1 := dk_seg dksX0_night_0 23 rfl rfl
theorem dX0_night_0 : decode cX0_night 0 = .ok (.aload_n 0, 1) := dk_42 (dk_at dksX0_night_0 0 rfl rfl)
theorem dX0_night_1 : decode cX0_night 1 = .ok (.getfield 116, 3) := dk_180 0 116 (dk_at dksX0_night_0 1 rfl rfl)
theorem dX0_night_4 : decode cX0_night 4 = .ok (.ifCond .ne 6, 3) := dk_154 0 6 (dk_at dksX0_night_0 4 rfl rfl)
theorem dX0_night_7 : decode cX0_night 7 = .ok (.bipush (-4), 2) := dk_16 252 (dk_at dksX0_night_0 7 rfl rfl)
theorem dX0_night_9 : decode cX0_night 9 = .ok (.ireturn, 1) := dk_172 (dk_at dksX0_night_0 9 rfl rfl)
theorem dX0_night_10 : decode cX0_night 10 = .ok (.aload_n 0, 1) := dk_42 (dk_at dksX0_night_0 10 rfl rfl)
theorem dX0_night_11 : decode cX0_night 11 = .ok (.getfield 202, 3) := dk_180 0 202 (dk_at dksX0_night_0 11 rfl rfl)
theorem dX0_night_14 : decode cX0_night 14 = .ok (.bipush 40, 2) := dk_16 40 (dk_at dksX0_night_0 14 rfl rfl)
theorem dX0_night_16 : decode cX0_night 16 = .ok (.if_icmp .ne 6, 3) := dk_160 0 6 (dk_at dksX0_night_0 16 rfl rfl)
theorem dX0_night_19 : decode cX0_night 19 = .ok (.bipush (-2), 2) := dk_16 254 (dk_at dksX0_night_0 19 rfl rfl)
theorem dX0_night_21 : decode cX0_night 21 = .ok (.ireturn, 1) := dk_172 (dk_at dksX0_night_0 21 rfl rfl)
theorem dX0_night_22 : decode cX0_night 22 = .ok (.aload_n 0, 1) := dk_42 (dk_at dksX0_night_0 22 rfl rfl)
theorem dX0_night_23 : decode cX0_night 23 = .ok (.invokevirtual 229, 3) := dk_182 0 229 (dk_at dksX0_night_1 0 rfl rfl)
theorem dX0_night_26 : decode cX0_night 26 = .ok (.aload_n 0, 1) := dk_42 (dk_at dksX0_night_1 3 rfl rfl)
theorem dX0_night_27 : decode cX0_night 27 = .ok (.iconst 0, 1) := dk_3 (dk_at dksX0_night_1 4 rfl rfl)
theorem dX0_night_28 : decode cX0_night 28 = .ok (.invokevirtual 232, 3) := dk_182 0 232 (dk_at dksX0_night_1 5 rfl rfl)
theorem dX0_night_31 : decode cX0_night 31 = .ok (.ireturn, 1) := dk_172 (dk_at dksX0_night_1 8 rfl rfl)
abbrev cX0_remember : ByteArray := prog_1_method_43_code
def yX0_remember : MethodName := ⟨RX0, "remember", "()V"⟩
def dkwX0_remember_1 : List UInt8 := [180, 0, 202, 4, 96, 181, 0, 202, 177]
abbrev dktX0_remember_1 : List UInt8 := dkwX0_remember_1 ++ []
def dkwX0_remember_0 : List UInt8 := [42, 180, 0, 41, 3, 42, 180, 0, 47, 16, 20, 42, 180, 0, 202, 104, 16, 20, 184, 0, 87, 42, 89]
abbrev dktX0_remember_0 : List UInt8 := dkwX0_remember_0 ++ dktX0_remember_1
theorem dksX0_remember_0 : cX0_remember.data.toList.drop 0 = dktX0_remember_0 := by decide +kernel
theorem dksX0_remember_1 : cX0_remember.data.toList.drop 23 = dktX0_remember_1 := dk_seg dksX0_remember_0 23 rfl rfl
theorem dX0_remember_0 : decode cX0_remember 0 = .ok (.aload_n 0, 1) := dk_42 (dk_at dksX0_remember_0 0 rfl rfl)
theorem dX0_remember_1 : decode cX0_remember 1 = .ok (.getfield 41, 3) := dk_180 0 41 (dk_at dksX0_remember_0 1 rfl rfl)
theorem dX0_remember_4 : decode cX0_remember 4 = .ok (.iconst 0, 1) := dk_3 (dk_at dksX0_remember_0 4 rfl rfl)
theorem dX0_remember_5 : decode cX0_remember 5 = .ok (.aload_n 0, 1) := dk_42 (dk_at dksX0_remember_0 5 rfl rfl)
theorem dX0_remember_6 : decode cX0_remember 6 = .ok (.getfield 47, 3) := dk_180 0 47 (dk_at dksX0_remember_0 6 rfl rfl)
theorem dX0_remember_9 : decode cX0_remember 9 = .ok (.bipush 20, 2) := dk_16 20 (dk_at dksX0_remember_0 9 rfl rfl)
theorem dX0_remember_11 : decode cX0_remember 11 = .ok (.aload_n 0, 1) := dk_42 (dk_at dksX0_remember_0 11 rfl rfl)
theorem dX0_remember_12 : decode cX0_remember 12 = .ok (.getfield 202, 3) := dk_180 0 202 (dk_at dksX0_remember_0 12 rfl rfl)
theorem dX0_remember_15 : decode cX0_remember 15 = .ok (.imul, 1) := dk_104 (dk_at dksX0_remember_0 15 rfl rfl)
theorem dX0_remember_16 : decode cX0_remember 16 = .ok (.bipush 20, 2) := dk_16 20 (dk_at dksX0_remember_0 16 rfl rfl)
theorem dX0_remember_18 : decode cX0_remember 18 = .ok (.invokestatic 87, 3) := dk_184 0 87 (dk_at dksX0_remember_0 18 rfl rfl)
theorem dX0_remember_21 : decode cX0_remember 21 = .ok (.aload_n 0, 1) := dk_42 (dk_at dksX0_remember_0 21 rfl rfl)
theorem dX0_remember_22 : decode cX0_remember 22 = .ok (.dup, 1) := dk_89 (dk_at dksX0_remember_0 22 rfl rfl)
theorem dX0_remember_23 : decode cX0_remember 23 = .ok (.getfield 202, 3) := dk_180 0 202 (dk_at dksX0_remember_1 0 rfl rfl)
theorem dX0_remember_26 : decode cX0_remember 26 = .ok (.iconst 1, 1) := dk_4 (dk_at dksX0_remember_1 3 rfl rfl)
theorem dX0_remember_27 : decode cX0_remember 27 = .ok (.iadd, 1) := dk_96 (dk_at dksX0_remember_1 4 rfl rfl)
theorem dX0_remember_28 : decode cX0_remember 28 = .ok (.putfield 202, 3) := dk_181 0 202 (dk_at dksX0_remember_1 5 rfl rfl)
theorem dX0_remember_31 : decode cX0_remember 31 = .ok (.return_, 1) := dk_177 (dk_at dksX0_remember_1 8 rfl rfl)
abbrev cX0_passes : ByteArray := prog_1_method_29_code
def yX0_passes : MethodName := ⟨RX0, "passes", "(I)I"⟩
def dkwX0_passes_5 : List UInt8 := [96, 79, 42, 180, 0, 41, 28, 3, 96, 92, 46, 4, 96, 79, 29, 172]
abbrev dktX0_passes_5 : List UInt8 := dkwX0_passes_5 ++ []
def dkwX0_passes_4 : List UInt8 := [180, 0, 41, 28, 16, 8, 96, 29, 96, 46, 79, 42, 180, 0, 41, 28, 16, 14, 96, 29, 96, 92, 46, 4]
abbrev dktX0_passes_4 : List UInt8 := dkwX0_passes_4 ++ dktX0_passes_5
def dkwX0_passes_3 : List UInt8 := [184, 0, 159, 79, 132, 4, 1, 167, 255, 193, 29, 16, 247, 159, 0, 37, 42, 180, 0, 41, 28, 4, 96, 42]
abbrev dktX0_passes_3 : List UInt8 := dkwX0_passes_3 ++ dktX0_passes_4
def dkwX0_passes_2 : List UInt8 := [180, 0, 41, 28, 5, 96, 21, 4, 96, 3, 42, 180, 0, 41, 28, 5, 96, 21, 4, 96, 46, 21, 5, 100]
abbrev dktX0_passes_2 : List UInt8 := dkwX0_passes_2 ++ dktX0_passes_3
def dkwX0_passes_1 : List UInt8 := [21, 4, 29, 160, 0, 7, 5, 167, 0, 13, 42, 180, 0, 37, 21, 4, 50, 184, 0, 155, 54, 5, 42]
abbrev dktX0_passes_1 : List UInt8 := dkwX0_passes_1 ++ dktX0_passes_2
def dkwX0_passes_0 : List UInt8 := [16, 20, 27, 104, 61, 42, 27, 3, 182, 0, 152, 62, 3, 54, 4, 21, 4, 42, 180, 0, 116, 162, 0, 60]
abbrev dktX0_passes_0 : List UInt8 := dkwX0_passes_0 ++ dktX0_passes_1
theorem dksX0_passes_0 : cX0_passes.data.toList.drop 0 = dktX0_passes_0 := by decide +kernel
theorem dksX0_passes_1 : cX0_passes.data.toList.drop 24 = dktX0_passes_1 := dk_seg dksX0_passes_0 24 rfl rfl
theorem dksX0_passes_2 : cX0_passes.data.toList.drop 47 = dktX0_passes_2 := dk_seg dksX0_passes_1 23 rfl rfl
theorem dksX0_passes_3 : cX0_passes.data.toList.drop 71 = dktX0_passes_3 := dk_seg dksX0_passes_2 24 rfl rfl
theorem dksX0_passes_4 : cX0_passes.data.toList.drop 95 = dktX0_passes_4 := dk_seg dksX0_passes_3 24 rfl rfl
theorem dksX0_passes_5 : cX0_passes.data.toList.drop 119 = dktX0_passes_5 := dk_seg dksX0_passes_4 24 rfl rfl
theorem dX0_passes_0 : decode cX0_passes 0 = .ok (.bipush 20, 2) := dk_16 20 (dk_at dksX0_passes_0 0 rfl rfl)
theorem dX0_passes_2 : decode cX0_passes 2 = .ok (.iload_n 1, 1) := dk_27 (dk_at dksX0_passes_0 2 rfl rfl)
theorem dX0_passes_3 : decode cX0_passes 3 = .ok (.imul, 1) := dk_104 (dk_at dksX0_passes_0 3 rfl rfl)
theorem dX0_passes_4 : decode cX0_passes 4 = .ok (.istore_n 2, 1) := dk_61 (dk_at dksX0_passes_0 4 rfl rfl)
theorem dX0_passes_5 : decode cX0_passes 5 = .ok (.aload_n 0, 1) := dk_42 (dk_at dksX0_passes_0 5 rfl rfl)
theorem dX0_passes_6 : decode cX0_passes 6 = .ok (.iload_n 1, 1) := dk_27 (dk_at dksX0_passes_0 6 rfl rfl)
theorem dX0_passes_7 : decode cX0_passes 7 = .ok (.iconst 0, 1) := dk_3 (dk_at dksX0_passes_0 7 rfl rfl)
theorem dX0_passes_8 : decode cX0_passes 8 = .ok (.invokevirtual 152, 3) := dk_182 0 152 (dk_at dksX0_passes_0 8 rfl rfl)
theorem dX0_passes_11 : decode cX0_passes 11 = .ok (.istore_n 3, 1) := dk_62 (dk_at dksX0_passes_0 11 rfl rfl)
theorem dX0_passes_12 : decode cX0_passes 12 = .ok (.iconst 0, 1) := dk_3 (dk_at dksX0_passes_0 12 rfl rfl)
theorem dX0_passes_13 : decode cX0_passes 13 = .ok (.istore 4, 2) := dk_54 4 (dk_at dksX0_passes_0 13 rfl rfl)
theorem dX0_passes_15 : decode cX0_passes 15 = .ok (.iload 4, 2) := dk_21 4 (dk_at dksX0_passes_0 15 rfl rfl)
theorem dX0_passes_17 : decode cX0_passes 17 = .ok (.aload_n 0, 1) := dk_42 (dk_at dksX0_passes_0 17 rfl rfl)
theorem dX0_passes_18 : decode cX0_passes 18 = .ok (.getfield 116, 3) := dk_180 0 116 (dk_at dksX0_passes_0 18 rfl rfl)
theorem dX0_passes_21 : decode cX0_passes 21 = .ok (.if_icmp .ge 60, 3) := dk_162 0 60 (dk_at dksX0_passes_0 21 rfl rfl)
theorem dX0_passes_24 : decode cX0_passes 24 = .ok (.iload 4, 2) := dk_21 4 (dk_at dksX0_passes_1 0 rfl rfl)
theorem dX0_passes_26 : decode cX0_passes 26 = .ok (.iload_n 3, 1) := dk_29 (dk_at dksX0_passes_1 2 rfl rfl)
theorem dX0_passes_27 : decode cX0_passes 27 = .ok (.if_icmp .ne 7, 3) := dk_160 0 7 (dk_at dksX0_passes_1 3 rfl rfl)
theorem dX0_passes_30 : decode cX0_passes 30 = .ok (.iconst 2, 1) := dk_5 (dk_at dksX0_passes_1 6 rfl rfl)
theorem dX0_passes_31 : decode cX0_passes 31 = .ok (.goto 13, 3) := dk_167 0 13 (dk_at dksX0_passes_1 7 rfl rfl)
theorem dX0_passes_34 : decode cX0_passes 34 = .ok (.aload_n 0, 1) := dk_42 (dk_at dksX0_passes_1 10 rfl rfl)
theorem dX0_passes_35 : decode cX0_passes 35 = .ok (.getfield 37, 3) := dk_180 0 37 (dk_at dksX0_passes_1 11 rfl rfl)
theorem dX0_passes_38 : decode cX0_passes 38 = .ok (.iload 4, 2) := dk_21 4 (dk_at dksX0_passes_1 14 rfl rfl)
theorem dX0_passes_40 : decode cX0_passes 40 = .ok (.aaload, 1) := dk_50 (dk_at dksX0_passes_1 16 rfl rfl)
theorem dX0_passes_41 : decode cX0_passes 41 = .ok (.invokestatic 155, 3) := dk_184 0 155 (dk_at dksX0_passes_1 17 rfl rfl)
theorem dX0_passes_44 : decode cX0_passes 44 = .ok (.istore 5, 2) := dk_54 5 (dk_at dksX0_passes_1 20 rfl rfl)
theorem dX0_passes_46 : decode cX0_passes 46 = .ok (.aload_n 0, 1) := dk_42 (dk_at dksX0_passes_1 22 rfl rfl)
theorem dX0_passes_47 : decode cX0_passes 47 = .ok (.getfield 41, 3) := dk_180 0 41 (dk_at dksX0_passes_2 0 rfl rfl)
theorem dX0_passes_50 : decode cX0_passes 50 = .ok (.iload_n 2, 1) := dk_28 (dk_at dksX0_passes_2 3 rfl rfl)
theorem dX0_passes_51 : decode cX0_passes 51 = .ok (.iconst 2, 1) := dk_5 (dk_at dksX0_passes_2 4 rfl rfl)
theorem dX0_passes_52 : decode cX0_passes 52 = .ok (.iadd, 1) := dk_96 (dk_at dksX0_passes_2 5 rfl rfl)
theorem dX0_passes_53 : decode cX0_passes 53 = .ok (.iload 4, 2) := dk_21 4 (dk_at dksX0_passes_2 6 rfl rfl)
theorem dX0_passes_55 : decode cX0_passes 55 = .ok (.iadd, 1) := dk_96 (dk_at dksX0_passes_2 8 rfl rfl)
theorem dX0_passes_56 : decode cX0_passes 56 = .ok (.iconst 0, 1) := dk_3 (dk_at dksX0_passes_2 9 rfl rfl)
theorem dX0_passes_57 : decode cX0_passes 57 = .ok (.aload_n 0, 1) := dk_42 (dk_at dksX0_passes_2 10 rfl rfl)
theorem dX0_passes_58 : decode cX0_passes 58 = .ok (.getfield 41, 3) := dk_180 0 41 (dk_at dksX0_passes_2 11 rfl rfl)
theorem dX0_passes_61 : decode cX0_passes 61 = .ok (.iload_n 2, 1) := dk_28 (dk_at dksX0_passes_2 14 rfl rfl)
theorem dX0_passes_62 : decode cX0_passes 62 = .ok (.iconst 2, 1) := dk_5 (dk_at dksX0_passes_2 15 rfl rfl)
theorem dX0_passes_63 : decode cX0_passes 63 = .ok (.iadd, 1) := dk_96 (dk_at dksX0_passes_2 16 rfl rfl)
theorem dX0_passes_64 : decode cX0_passes 64 = .ok (.iload 4, 2) := dk_21 4 (dk_at dksX0_passes_2 17 rfl rfl)
theorem dX0_passes_66 : decode cX0_passes 66 = .ok (.iadd, 1) := dk_96 (dk_at dksX0_passes_2 19 rfl rfl)
theorem dX0_passes_67 : decode cX0_passes 67 = .ok (.iaload, 1) := dk_46 (dk_at dksX0_passes_2 20 rfl rfl)
theorem dX0_passes_68 : decode cX0_passes 68 = .ok (.iload 5, 2) := dk_21 5 (dk_at dksX0_passes_2 21 rfl rfl)
theorem dX0_passes_70 : decode cX0_passes 70 = .ok (.isub, 1) := dk_100 (dk_at dksX0_passes_2 23 rfl rfl)
theorem dX0_passes_71 : decode cX0_passes 71 = .ok (.invokestatic 159, 3) := dk_184 0 159 (dk_at dksX0_passes_3 0 rfl rfl)
theorem dX0_passes_74 : decode cX0_passes 74 = .ok (.iastore, 1) := dk_79 (dk_at dksX0_passes_3 3 rfl rfl)
theorem dX0_passes_75 : decode cX0_passes 75 = .ok (.iinc 4 1, 3) := dk_132 4 1 (dk_at dksX0_passes_3 4 rfl rfl)
theorem dX0_passes_78 : decode cX0_passes 78 = .ok (.goto (-63), 3) := dk_167 255 193 (dk_at dksX0_passes_3 7 rfl rfl)
theorem dX0_passes_81 : decode cX0_passes 81 = .ok (.iload_n 3, 1) := dk_29 (dk_at dksX0_passes_3 10 rfl rfl)
theorem dX0_passes_82 : decode cX0_passes 82 = .ok (.bipush (-9), 2) := dk_16 247 (dk_at dksX0_passes_3 11 rfl rfl)
theorem dX0_passes_84 : decode cX0_passes 84 = .ok (.if_icmp .eq 37, 3) := dk_159 0 37 (dk_at dksX0_passes_3 13 rfl rfl)
theorem dX0_passes_87 : decode cX0_passes 87 = .ok (.aload_n 0, 1) := dk_42 (dk_at dksX0_passes_3 16 rfl rfl)
theorem dX0_passes_88 : decode cX0_passes 88 = .ok (.getfield 41, 3) := dk_180 0 41 (dk_at dksX0_passes_3 17 rfl rfl)
theorem dX0_passes_91 : decode cX0_passes 91 = .ok (.iload_n 2, 1) := dk_28 (dk_at dksX0_passes_3 20 rfl rfl)
theorem dX0_passes_92 : decode cX0_passes 92 = .ok (.iconst 1, 1) := dk_4 (dk_at dksX0_passes_3 21 rfl rfl)
theorem dX0_passes_93 : decode cX0_passes 93 = .ok (.iadd, 1) := dk_96 (dk_at dksX0_passes_3 22 rfl rfl)
theorem dX0_passes_94 : decode cX0_passes 94 = .ok (.aload_n 0, 1) := dk_42 (dk_at dksX0_passes_3 23 rfl rfl)
theorem dX0_passes_95 : decode cX0_passes 95 = .ok (.getfield 41, 3) := dk_180 0 41 (dk_at dksX0_passes_4 0 rfl rfl)
theorem dX0_passes_98 : decode cX0_passes 98 = .ok (.iload_n 2, 1) := dk_28 (dk_at dksX0_passes_4 3 rfl rfl)
theorem dX0_passes_99 : decode cX0_passes 99 = .ok (.bipush 8, 2) := dk_16 8 (dk_at dksX0_passes_4 4 rfl rfl)
theorem dX0_passes_101 : decode cX0_passes 101 = .ok (.iadd, 1) := dk_96 (dk_at dksX0_passes_4 6 rfl rfl)
theorem dX0_passes_102 : decode cX0_passes 102 = .ok (.iload_n 3, 1) := dk_29 (dk_at dksX0_passes_4 7 rfl rfl)
theorem dX0_passes_103 : decode cX0_passes 103 = .ok (.iadd, 1) := dk_96 (dk_at dksX0_passes_4 8 rfl rfl)
theorem dX0_passes_104 : decode cX0_passes 104 = .ok (.iaload, 1) := dk_46 (dk_at dksX0_passes_4 9 rfl rfl)
theorem dX0_passes_105 : decode cX0_passes 105 = .ok (.iastore, 1) := dk_79 (dk_at dksX0_passes_4 10 rfl rfl)
theorem dX0_passes_106 : decode cX0_passes 106 = .ok (.aload_n 0, 1) := dk_42 (dk_at dksX0_passes_4 11 rfl rfl)
theorem dX0_passes_107 : decode cX0_passes 107 = .ok (.getfield 41, 3) := dk_180 0 41 (dk_at dksX0_passes_4 12 rfl rfl)
theorem dX0_passes_110 : decode cX0_passes 110 = .ok (.iload_n 2, 1) := dk_28 (dk_at dksX0_passes_4 15 rfl rfl)
theorem dX0_passes_111 : decode cX0_passes 111 = .ok (.bipush 14, 2) := dk_16 14 (dk_at dksX0_passes_4 16 rfl rfl)
theorem dX0_passes_113 : decode cX0_passes 113 = .ok (.iadd, 1) := dk_96 (dk_at dksX0_passes_4 18 rfl rfl)
theorem dX0_passes_114 : decode cX0_passes 114 = .ok (.iload_n 3, 1) := dk_29 (dk_at dksX0_passes_4 19 rfl rfl)
theorem dX0_passes_115 : decode cX0_passes 115 = .ok (.iadd, 1) := dk_96 (dk_at dksX0_passes_4 20 rfl rfl)
theorem dX0_passes_116 : decode cX0_passes 116 = .ok (.dup2, 1) := dk_92 (dk_at dksX0_passes_4 21 rfl rfl)
theorem dX0_passes_117 : decode cX0_passes 117 = .ok (.iaload, 1) := dk_46 (dk_at dksX0_passes_4 22 rfl rfl)
theorem dX0_passes_118 : decode cX0_passes 118 = .ok (.iconst 1, 1) := dk_4 (dk_at dksX0_passes_4 23 rfl rfl)
theorem dX0_passes_119 : decode cX0_passes 119 = .ok (.iadd, 1) := dk_96 (dk_at dksX0_passes_5 0 rfl rfl)
theorem dX0_passes_120 : decode cX0_passes 120 = .ok (.iastore, 1) := dk_79 (dk_at dksX0_passes_5 1 rfl rfl)
theorem dX0_passes_121 : decode cX0_passes 121 = .ok (.aload_n 0, 1) := dk_42 (dk_at dksX0_passes_5 2 rfl rfl)
theorem dX0_passes_122 : decode cX0_passes 122 = .ok (.getfield 41, 3) := dk_180 0 41 (dk_at dksX0_passes_5 3 rfl rfl)
theorem dX0_passes_125 : decode cX0_passes 125 = .ok (.iload_n 2, 1) := dk_28 (dk_at dksX0_passes_5 6 rfl rfl)
theorem dX0_passes_126 : decode cX0_passes 126 = .ok (.iconst 0, 1) := dk_3 (dk_at dksX0_passes_5 7 rfl rfl)
theorem dX0_passes_127 : decode cX0_passes 127 = .ok (.iadd, 1) := dk_96 (dk_at dksX0_passes_5 8 rfl rfl)
theorem dX0_passes_128 : decode cX0_passes 128 = .ok (.dup2, 1) := dk_92 (dk_at dksX0_passes_5 9 rfl rfl)
theorem dX0_passes_129 : decode cX0_passes 129 = .ok (.iaload, 1) := dk_46 (dk_at dksX0_passes_5 10 rfl rfl)
theorem dX0_passes_130 : decode cX0_passes 130 = .ok (.iconst 1, 1) := dk_4 (dk_at dksX0_passes_5 11 rfl rfl)
theorem dX0_passes_131 : decode cX0_passes 131 = .ok (.iadd, 1) := dk_96 (dk_at dksX0_passes_5 12 rfl rfl)
theorem dX0_passes_132 : decode cX0_passes 132 = .ok (.iastore, 1) := dk_79 (dk_at dksX0_passes_5 13 rfl rfl)
theorem dX0_passes_133 : decode cX0_passes 133 = .ok (.iload_n 3, 1) := dk_29 (dk_at dksX0_passes_5 14 rfl rfl)
theorem dX0_passes_134 : decode cX0_passes 134 = .ok (.ireturn, 1) := dk_172 (dk_at dksX0_passes_5 15 rfl rfl)
abbrev cX0_hasIt : ByteArray := prog_1_method_28_code
def yX0_hasIt : MethodName := ⟨RX0, "hasIt", "(II)I"⟩
def dkwX0_hasIt_3 : List UInt8 := [54, 4, 132, 5, 1, 167, 255, 189, 29, 172]
abbrev dktX0_hasIt_3 : List UInt8 := dkwX0_hasIt_3 ++ []
def dkwX0_hasIt_2 : List UInt8 := [159, 0, 18, 42, 27, 21, 5, 21, 6, 29, 21, 4, 182, 0, 148, 153, 0, 10, 21, 5, 62, 21, 6]
abbrev dktX0_hasIt_2 : List UInt8 := dkwX0_hasIt_2 ++ dktX0_hasIt_3
def dkwX0_hasIt_1 : List UInt8 := [153, 0, 7, 3, 167, 0, 10, 42, 27, 21, 5, 182, 0, 145, 54, 6, 21, 6, 158, 0, 31, 29, 16, 247]
abbrev dktX0_hasIt_1 : List UInt8 := dkwX0_hasIt_1 ++ dktX0_hasIt_2
def dkwX0_hasIt_0 : List UInt8 := [16, 247, 62, 3, 54, 4, 3, 54, 5, 21, 5, 42, 180, 0, 116, 162, 0, 64, 28, 21, 5, 184, 0, 141]
abbrev dktX0_hasIt_0 : List UInt8 := dkwX0_hasIt_0 ++ dktX0_hasIt_1
theorem dksX0_hasIt_0 : cX0_hasIt.data.toList.drop 0 = dktX0_hasIt_0 := by decide +kernel
theorem dksX0_hasIt_1 : cX0_hasIt.data.toList.drop 24 = dktX0_hasIt_1 := dk_seg dksX0_hasIt_0 24 rfl rfl
theorem dksX0_hasIt_2 : cX0_hasIt.data.toList.drop 48 = dktX0_hasIt_2 := dk_seg dksX0_hasIt_1 24 rfl rfl
theorem dksX0_hasIt_3 : cX0_hasIt.data.toList.drop 71 = dktX0_hasIt_3 := dk_seg dksX0_hasIt_2 23 rfl rfl
theorem dX0_hasIt_0 : decode cX0_hasIt 0 = .ok (.bipush (-9), 2) := dk_16 247 (dk_at dksX0_hasIt_0 0 rfl rfl)
theorem dX0_hasIt_2 : decode cX0_hasIt 2 = .ok (.istore_n 3, 1) := dk_62 (dk_at dksX0_hasIt_0 2 rfl rfl)
theorem dX0_hasIt_3 : decode cX0_hasIt 3 = .ok (.iconst 0, 1) := dk_3 (dk_at dksX0_hasIt_0 3 rfl rfl)
theorem dX0_hasIt_4 : decode cX0_hasIt 4 = .ok (.istore 4, 2) := dk_54 4 (dk_at dksX0_hasIt_0 4 rfl rfl)
theorem dX0_hasIt_6 : decode cX0_hasIt 6 = .ok (.iconst 0, 1) := dk_3 (dk_at dksX0_hasIt_0 6 rfl rfl)
theorem dX0_hasIt_7 : decode cX0_hasIt 7 = .ok (.istore 5, 2) := dk_54 5 (dk_at dksX0_hasIt_0 7 rfl rfl)
theorem dX0_hasIt_9 : decode cX0_hasIt 9 = .ok (.iload 5, 2) := dk_21 5 (dk_at dksX0_hasIt_0 9 rfl rfl)
theorem dX0_hasIt_11 : decode cX0_hasIt 11 = .ok (.aload_n 0, 1) := dk_42 (dk_at dksX0_hasIt_0 11 rfl rfl)
theorem dX0_hasIt_12 : decode cX0_hasIt 12 = .ok (.getfield 116, 3) := dk_180 0 116 (dk_at dksX0_hasIt_0 12 rfl rfl)
theorem dX0_hasIt_15 : decode cX0_hasIt 15 = .ok (.if_icmp .ge 64, 3) := dk_162 0 64 (dk_at dksX0_hasIt_0 15 rfl rfl)
theorem dX0_hasIt_18 : decode cX0_hasIt 18 = .ok (.iload_n 2, 1) := dk_28 (dk_at dksX0_hasIt_0 18 rfl rfl)
theorem dX0_hasIt_19 : decode cX0_hasIt 19 = .ok (.iload 5, 2) := dk_21 5 (dk_at dksX0_hasIt_0 19 rfl rfl)
theorem dX0_hasIt_21 : decode cX0_hasIt 21 = .ok (.invokestatic 141, 3) := dk_184 0 141 (dk_at dksX0_hasIt_0 21 rfl rfl)
theorem dX0_hasIt_24 : decode cX0_hasIt 24 = .ok (.ifCond .eq 7, 3) := dk_153 0 7 (dk_at dksX0_hasIt_1 0 rfl rfl)
theorem dX0_hasIt_27 : decode cX0_hasIt 27 = .ok (.iconst 0, 1) := dk_3 (dk_at dksX0_hasIt_1 3 rfl rfl)
theorem dX0_hasIt_28 : decode cX0_hasIt 28 = .ok (.goto 10, 3) := dk_167 0 10 (dk_at dksX0_hasIt_1 4 rfl rfl)
theorem dX0_hasIt_31 : decode cX0_hasIt 31 = .ok (.aload_n 0, 1) := dk_42 (dk_at dksX0_hasIt_1 7 rfl rfl)
theorem dX0_hasIt_32 : decode cX0_hasIt 32 = .ok (.iload_n 1, 1) := dk_27 (dk_at dksX0_hasIt_1 8 rfl rfl)
theorem dX0_hasIt_33 : decode cX0_hasIt 33 = .ok (.iload 5, 2) := dk_21 5 (dk_at dksX0_hasIt_1 9 rfl rfl)
theorem dX0_hasIt_35 : decode cX0_hasIt 35 = .ok (.invokevirtual 145, 3) := dk_182 0 145 (dk_at dksX0_hasIt_1 11 rfl rfl)
theorem dX0_hasIt_38 : decode cX0_hasIt 38 = .ok (.istore 6, 2) := dk_54 6 (dk_at dksX0_hasIt_1 14 rfl rfl)
theorem dX0_hasIt_40 : decode cX0_hasIt 40 = .ok (.iload 6, 2) := dk_21 6 (dk_at dksX0_hasIt_1 16 rfl rfl)
theorem dX0_hasIt_42 : decode cX0_hasIt 42 = .ok (.ifCond .le 31, 3) := dk_158 0 31 (dk_at dksX0_hasIt_1 18 rfl rfl)
theorem dX0_hasIt_45 : decode cX0_hasIt 45 = .ok (.iload_n 3, 1) := dk_29 (dk_at dksX0_hasIt_1 21 rfl rfl)
theorem dX0_hasIt_46 : decode cX0_hasIt 46 = .ok (.bipush (-9), 2) := dk_16 247 (dk_at dksX0_hasIt_1 22 rfl rfl)
theorem dX0_hasIt_48 : decode cX0_hasIt 48 = .ok (.if_icmp .eq 18, 3) := dk_159 0 18 (dk_at dksX0_hasIt_2 0 rfl rfl)
theorem dX0_hasIt_51 : decode cX0_hasIt 51 = .ok (.aload_n 0, 1) := dk_42 (dk_at dksX0_hasIt_2 3 rfl rfl)
theorem dX0_hasIt_52 : decode cX0_hasIt 52 = .ok (.iload_n 1, 1) := dk_27 (dk_at dksX0_hasIt_2 4 rfl rfl)
theorem dX0_hasIt_53 : decode cX0_hasIt 53 = .ok (.iload 5, 2) := dk_21 5 (dk_at dksX0_hasIt_2 5 rfl rfl)
theorem dX0_hasIt_55 : decode cX0_hasIt 55 = .ok (.iload 6, 2) := dk_21 6 (dk_at dksX0_hasIt_2 7 rfl rfl)
theorem dX0_hasIt_57 : decode cX0_hasIt 57 = .ok (.iload_n 3, 1) := dk_29 (dk_at dksX0_hasIt_2 9 rfl rfl)
theorem dX0_hasIt_58 : decode cX0_hasIt 58 = .ok (.iload 4, 2) := dk_21 4 (dk_at dksX0_hasIt_2 10 rfl rfl)
theorem dX0_hasIt_60 : decode cX0_hasIt 60 = .ok (.invokevirtual 148, 3) := dk_182 0 148 (dk_at dksX0_hasIt_2 12 rfl rfl)
theorem dX0_hasIt_63 : decode cX0_hasIt 63 = .ok (.ifCond .eq 10, 3) := dk_153 0 10 (dk_at dksX0_hasIt_2 15 rfl rfl)
theorem dX0_hasIt_66 : decode cX0_hasIt 66 = .ok (.iload 5, 2) := dk_21 5 (dk_at dksX0_hasIt_2 18 rfl rfl)
theorem dX0_hasIt_68 : decode cX0_hasIt 68 = .ok (.istore_n 3, 1) := dk_62 (dk_at dksX0_hasIt_2 20 rfl rfl)
theorem dX0_hasIt_69 : decode cX0_hasIt 69 = .ok (.iload 6, 2) := dk_21 6 (dk_at dksX0_hasIt_2 21 rfl rfl)
theorem dX0_hasIt_71 : decode cX0_hasIt 71 = .ok (.istore 4, 2) := dk_54 4 (dk_at dksX0_hasIt_3 0 rfl rfl)
theorem dX0_hasIt_73 : decode cX0_hasIt 73 = .ok (.iinc 5 1, 3) := dk_132 5 1 (dk_at dksX0_hasIt_3 2 rfl rfl)
theorem dX0_hasIt_76 : decode cX0_hasIt 76 = .ok (.goto (-67), 3) := dk_167 255 189 (dk_at dksX0_hasIt_3 5 rfl rfl)
theorem dX0_hasIt_79 : decode cX0_hasIt 79 = .ok (.iload_n 3, 1) := dk_29 (dk_at dksX0_hasIt_3 8 rfl rfl)
theorem dX0_hasIt_80 : decode cX0_hasIt 80 = .ok (.ireturn, 1) := dk_172 (dk_at dksX0_hasIt_3 9 rfl rfl)
abbrev cX0_has : ByteArray := prog_1_method_2_code
def yX0_has : MethodName := ⟨RX0, "has", "(II)Z"⟩
def dkwX0_has_0 : List UInt8 := [26, 27, 122, 4, 126, 4, 160, 0, 7, 4, 167, 0, 4, 3, 172]
abbrev dktX0_has_0 : List UInt8 := dkwX0_has_0 ++ []
theorem dksX0_has_0 : cX0_has.data.toList.drop 0 = dktX0_has_0 := by decide +kernel
theorem dX0_has_0 : decode cX0_has 0 = .ok (.iload_n 0, 1) := dk_26 (dk_at dksX0_has_0 0 rfl rfl)
theorem dX0_has_1 : decode cX0_has 1 = .ok (.iload_n 1, 1) := dk_27 (dk_at dksX0_has_0 1 rfl rfl)
theorem dX0_has_2 : decode cX0_has 2 = .ok (.ishr, 1) := dk_122 (dk_at dksX0_has_0 2 rfl rfl)
theorem dX0_has_3 : decode cX0_has 3 = .ok (.iconst 1, 1) := dk_4 (dk_at dksX0_has_0 3 rfl rfl)
theorem dX0_has_4 : decode cX0_has 4 = .ok (.iand, 1) := dk_126 (dk_at dksX0_has_0 4 rfl rfl)
theorem dX0_has_5 : decode cX0_has 5 = .ok (.iconst 1, 1) := dk_4 (dk_at dksX0_has_0 5 rfl rfl)
theorem dX0_has_6 : decode cX0_has 6 = .ok (.if_icmp .ne 7, 3) := dk_160 0 7 (dk_at dksX0_has_0 6 rfl rfl)
theorem dX0_has_9 : decode cX0_has 9 = .ok (.iconst 1, 1) := dk_4 (dk_at dksX0_has_0 9 rfl rfl)
theorem dX0_has_10 : decode cX0_has 10 = .ok (.goto 4, 3) := dk_167 0 4 (dk_at dksX0_has_0 10 rfl rfl)
theorem dX0_has_13 : decode cX0_has 13 = .ok (.iconst 0, 1) := dk_3 (dk_at dksX0_has_0 13 rfl rfl)
theorem dX0_has_14 : decode cX0_has 14 = .ok (.ireturn, 1) := dk_172 (dk_at dksX0_has_0 14 rfl rfl)
abbrev cX0_isAhead : ByteArray := prog_1_method_27_code
def yX0_isAhead : MethodName := ⟨RX0, "isAhead", "(IIIII)Z"⟩
def dkwX0_isAhead_2 : List UInt8 := [162, 0, 7, 4, 167, 0, 18, 3, 167, 0, 14, 28, 21, 4, 162, 0, 7, 4, 167, 0, 4, 3, 172]
abbrev dktX0_isAhead_2 : List UInt8 := dkwX0_isAhead_2 ++ []
def dkwX0_isAhead_1 : List UInt8 := [42, 27, 21, 4, 182, 0, 134, 159, 0, 27, 42, 27, 28, 182, 0, 134, 42, 27, 21, 4, 182, 0, 134]
abbrev dktX0_isAhead_1 : List UInt8 := dkwX0_isAhead_1 ++ dktX0_isAhead_2
def dkwX0_isAhead_0 : List UInt8 := [29, 21, 5, 159, 0, 15, 29, 21, 5, 164, 0, 7, 4, 167, 0, 4, 3, 172, 42, 27, 28, 182, 0, 134]
abbrev dktX0_isAhead_0 : List UInt8 := dkwX0_isAhead_0 ++ dktX0_isAhead_1
theorem dksX0_isAhead_0 : cX0_isAhead.data.toList.drop 0 = dktX0_isAhead_0 := by decide +kernel
theorem dksX0_isAhead_1 : cX0_isAhead.data.toList.drop 24 = dktX0_isAhead_1 := dk_seg dksX0_isAhead_0 24 rfl rfl
theorem dksX0_isAhead_2 : cX0_isAhead.data.toList.drop 47 = dktX0_isAhead_2 := dk_seg dksX0_isAhead_1 23 rfl rfl
theorem dX0_isAhead_0 : decode cX0_isAhead 0 = .ok (.iload_n 3, 1) := dk_29 (dk_at dksX0_isAhead_0 0 rfl rfl)
theorem dX0_isAhead_1 : decode cX0_isAhead 1 = .ok (.iload 5, 2) := dk_21 5 (dk_at dksX0_isAhead_0 1 rfl rfl)
theorem dX0_isAhead_3 : decode cX0_isAhead 3 = .ok (.if_icmp .eq 15, 3) := dk_159 0 15 (dk_at dksX0_isAhead_0 3 rfl rfl)
theorem dX0_isAhead_6 : decode cX0_isAhead 6 = .ok (.iload_n 3, 1) := dk_29 (dk_at dksX0_isAhead_0 6 rfl rfl)
theorem dX0_isAhead_7 : decode cX0_isAhead 7 = .ok (.iload 5, 2) := dk_21 5 (dk_at dksX0_isAhead_0 7 rfl rfl)
theorem dX0_isAhead_9 : decode cX0_isAhead 9 = .ok (.if_icmp .le 7, 3) := dk_164 0 7 (dk_at dksX0_isAhead_0 9 rfl rfl)
theorem dX0_isAhead_12 : decode cX0_isAhead 12 = .ok (.iconst 1, 1) := dk_4 (dk_at dksX0_isAhead_0 12 rfl rfl)
theorem dX0_isAhead_13 : decode cX0_isAhead 13 = .ok (.goto 4, 3) := dk_167 0 4 (dk_at dksX0_isAhead_0 13 rfl rfl)
theorem dX0_isAhead_16 : decode cX0_isAhead 16 = .ok (.iconst 0, 1) := dk_3 (dk_at dksX0_isAhead_0 16 rfl rfl)
theorem dX0_isAhead_17 : decode cX0_isAhead 17 = .ok (.ireturn, 1) := dk_172 (dk_at dksX0_isAhead_0 17 rfl rfl)
theorem dX0_isAhead_18 : decode cX0_isAhead 18 = .ok (.aload_n 0, 1) := dk_42 (dk_at dksX0_isAhead_0 18 rfl rfl)
theorem dX0_isAhead_19 : decode cX0_isAhead 19 = .ok (.iload_n 1, 1) := dk_27 (dk_at dksX0_isAhead_0 19 rfl rfl)
theorem dX0_isAhead_20 : decode cX0_isAhead 20 = .ok (.iload_n 2, 1) := dk_28 (dk_at dksX0_isAhead_0 20 rfl rfl)
theorem dX0_isAhead_21 : decode cX0_isAhead 21 = .ok (.invokevirtual 134, 3) := dk_182 0 134 (dk_at dksX0_isAhead_0 21 rfl rfl)
theorem dX0_isAhead_24 : decode cX0_isAhead 24 = .ok (.aload_n 0, 1) := dk_42 (dk_at dksX0_isAhead_1 0 rfl rfl)
theorem dX0_isAhead_25 : decode cX0_isAhead 25 = .ok (.iload_n 1, 1) := dk_27 (dk_at dksX0_isAhead_1 1 rfl rfl)
theorem dX0_isAhead_26 : decode cX0_isAhead 26 = .ok (.iload 4, 2) := dk_21 4 (dk_at dksX0_isAhead_1 2 rfl rfl)
theorem dX0_isAhead_28 : decode cX0_isAhead 28 = .ok (.invokevirtual 134, 3) := dk_182 0 134 (dk_at dksX0_isAhead_1 4 rfl rfl)
theorem dX0_isAhead_31 : decode cX0_isAhead 31 = .ok (.if_icmp .eq 27, 3) := dk_159 0 27 (dk_at dksX0_isAhead_1 7 rfl rfl)
theorem dX0_isAhead_34 : decode cX0_isAhead 34 = .ok (.aload_n 0, 1) := dk_42 (dk_at dksX0_isAhead_1 10 rfl rfl)
theorem dX0_isAhead_35 : decode cX0_isAhead 35 = .ok (.iload_n 1, 1) := dk_27 (dk_at dksX0_isAhead_1 11 rfl rfl)
theorem dX0_isAhead_36 : decode cX0_isAhead 36 = .ok (.iload_n 2, 1) := dk_28 (dk_at dksX0_isAhead_1 12 rfl rfl)
theorem dX0_isAhead_37 : decode cX0_isAhead 37 = .ok (.invokevirtual 134, 3) := dk_182 0 134 (dk_at dksX0_isAhead_1 13 rfl rfl)
theorem dX0_isAhead_40 : decode cX0_isAhead 40 = .ok (.aload_n 0, 1) := dk_42 (dk_at dksX0_isAhead_1 16 rfl rfl)
theorem dX0_isAhead_41 : decode cX0_isAhead 41 = .ok (.iload_n 1, 1) := dk_27 (dk_at dksX0_isAhead_1 17 rfl rfl)
theorem dX0_isAhead_42 : decode cX0_isAhead 42 = .ok (.iload 4, 2) := dk_21 4 (dk_at dksX0_isAhead_1 18 rfl rfl)
theorem dX0_isAhead_44 : decode cX0_isAhead 44 = .ok (.invokevirtual 134, 3) := dk_182 0 134 (dk_at dksX0_isAhead_1 20 rfl rfl)
theorem dX0_isAhead_47 : decode cX0_isAhead 47 = .ok (.if_icmp .ge 7, 3) := dk_162 0 7 (dk_at dksX0_isAhead_2 0 rfl rfl)
theorem dX0_isAhead_50 : decode cX0_isAhead 50 = .ok (.iconst 1, 1) := dk_4 (dk_at dksX0_isAhead_2 3 rfl rfl)
theorem dX0_isAhead_51 : decode cX0_isAhead 51 = .ok (.goto 18, 3) := dk_167 0 18 (dk_at dksX0_isAhead_2 4 rfl rfl)
theorem dX0_isAhead_54 : decode cX0_isAhead 54 = .ok (.iconst 0, 1) := dk_3 (dk_at dksX0_isAhead_2 7 rfl rfl)
theorem dX0_isAhead_55 : decode cX0_isAhead 55 = .ok (.goto 14, 3) := dk_167 0 14 (dk_at dksX0_isAhead_2 8 rfl rfl)
theorem dX0_isAhead_58 : decode cX0_isAhead 58 = .ok (.iload_n 2, 1) := dk_28 (dk_at dksX0_isAhead_2 11 rfl rfl)
theorem dX0_isAhead_59 : decode cX0_isAhead 59 = .ok (.iload 4, 2) := dk_21 4 (dk_at dksX0_isAhead_2 12 rfl rfl)
theorem dX0_isAhead_61 : decode cX0_isAhead 61 = .ok (.if_icmp .ge 7, 3) := dk_162 0 7 (dk_at dksX0_isAhead_2 14 rfl rfl)
theorem dX0_isAhead_64 : decode cX0_isAhead 64 = .ok (.iconst 1, 1) := dk_4 (dk_at dksX0_isAhead_2 17 rfl rfl)
theorem dX0_isAhead_65 : decode cX0_isAhead 65 = .ok (.goto 4, 3) := dk_167 0 4 (dk_at dksX0_isAhead_2 18 rfl rfl)
theorem dX0_isAhead_68 : decode cX0_isAhead 68 = .ok (.iconst 0, 1) := dk_3 (dk_at dksX0_isAhead_2 21 rfl rfl)
theorem dX0_isAhead_69 : decode cX0_isAhead 69 = .ok (.ireturn, 1) := dk_172 (dk_at dksX0_isAhead_2 22 rfl rfl)
abbrev cX0_fadedBy : ByteArray := prog_1_method_24_code
def yX0_fadedBy : MethodName := ⟨RX0, "fadedBy", "(LDareFord$Person;)I"⟩
def dkwX0_fadedBy_0 : List UInt8 := [42, 76, 43, 185, 0, 125, 1, 0, 172]
abbrev dktX0_fadedBy_0 : List UInt8 := dkwX0_fadedBy_0 ++ []
theorem dksX0_fadedBy_0 : cX0_fadedBy.data.toList.drop 0 = dktX0_fadedBy_0 := by decide +kernel
theorem dX0_fadedBy_0 : decode cX0_fadedBy 0 = .ok (.aload_n 0, 1) := dk_42 (dk_at dksX0_fadedBy_0 0 rfl rfl)
theorem dX0_fadedBy_1 : decode cX0_fadedBy 1 = .ok (.astore_n 1, 1) := dk_76 (dk_at dksX0_fadedBy_0 1 rfl rfl)
theorem dX0_fadedBy_2 : decode cX0_fadedBy 2 = .ok (.aload_n 1, 1) := dk_43 (dk_at dksX0_fadedBy_0 2 rfl rfl)
theorem dX0_fadedBy_3 : decode cX0_fadedBy 3 = .ok (.invokeinterface 125 1, 5) := by decide +kernel
theorem dX0_fadedBy_8 : decode cX0_fadedBy 8 = .ok (.ireturn, 1) := dk_172 (dk_at dksX0_fadedBy_0 8 rfl rfl)
abbrev cX0_raise : ByteArray := prog_1_method_47_code
def yX0_raise : MethodName := ⟨RX0, "raise", "(II)I"⟩
def dkwX0_raise_0 : List UInt8 := [42, 27, 28, 28, 182, 0, 235, 172]
abbrev dktX0_raise_0 : List UInt8 := dkwX0_raise_0 ++ []
theorem dksX0_raise_0 : cX0_raise.data.toList.drop 0 = dktX0_raise_0 := by decide +kernel
theorem dX0_raise_0 : decode cX0_raise 0 = .ok (.aload_n 0, 1) := dk_42 (dk_at dksX0_raise_0 0 rfl rfl)
theorem dX0_raise_1 : decode cX0_raise 1 = .ok (.iload_n 1, 1) := dk_27 (dk_at dksX0_raise_0 1 rfl rfl)
theorem dX0_raise_2 : decode cX0_raise 2 = .ok (.iload_n 2, 1) := dk_28 (dk_at dksX0_raise_0 2 rfl rfl)
theorem dX0_raise_3 : decode cX0_raise 3 = .ok (.iload_n 2, 1) := dk_28 (dk_at dksX0_raise_0 3 rfl rfl)
theorem dX0_raise_4 : decode cX0_raise 4 = .ok (.invokevirtual 235, 3) := dk_182 0 235 (dk_at dksX0_raise_0 4 rfl rfl)
theorem dX0_raise_7 : decode cX0_raise 7 = .ok (.ireturn, 1) := dk_172 (dk_at dksX0_raise_0 7 rfl rfl)
abbrev cX0_dared : ByteArray := prog_1_method_46_code
def yX0_dared : MethodName := ⟨RX0, "dared", "(III)I"⟩
def dkwX0_dared_3 : List UInt8 := [172]
abbrev dktX0_dared_3 : List UInt8 := dkwX0_dared_3 ++ []
def dkwX0_dared_2 : List UInt8 := [16, 40, 160, 0, 6, 16, 254, 172, 42, 182, 0, 229, 42, 180, 0, 41, 5, 27, 96, 21, 4, 79, 21, 4]
abbrev dktX0_dared_2 : List UInt8 := dkwX0_dared_2 ++ dktX0_dared_3
def dkwX0_dared_1 : List UInt8 := [5, 27, 96, 46, 29, 96, 54, 4, 21, 4, 184, 0, 173, 154, 0, 6, 16, 252, 172, 42, 180, 0, 202]
abbrev dktX0_dared_1 : List UInt8 := dkwX0_dared_1 ++ dktX0_dared_2
def dkwX0_dared_0 : List UInt8 := [42, 27, 182, 0, 208, 153, 0, 13, 28, 4, 16, 9, 184, 0, 65, 154, 0, 5, 2, 172, 42, 180, 0, 41]
abbrev dktX0_dared_0 : List UInt8 := dkwX0_dared_0 ++ dktX0_dared_1
theorem dksX0_dared_0 : cX0_dared.data.toList.drop 0 = dktX0_dared_0 := by decide +kernel
theorem dksX0_dared_1 : cX0_dared.data.toList.drop 24 = dktX0_dared_1 := dk_seg dksX0_dared_0 24 rfl rfl
theorem dksX0_dared_2 : cX0_dared.data.toList.drop 47 = dktX0_dared_2 := dk_seg dksX0_dared_1 23 rfl rfl
theorem dksX0_dared_3 : cX0_dared.data.toList.drop 71 = dktX0_dared_3 := dk_seg dksX0_dared_2 24 rfl rfl
theorem dX0_dared_0 : decode cX0_dared 0 = .ok (.aload_n 0, 1) := dk_42 (dk_at dksX0_dared_0 0 rfl rfl)
theorem dX0_dared_1 : decode cX0_dared 1 = .ok (.iload_n 1, 1) := dk_27 (dk_at dksX0_dared_0 1 rfl rfl)
theorem dX0_dared_2 : decode cX0_dared 2 = .ok (.invokevirtual 208, 3) := dk_182 0 208 (dk_at dksX0_dared_0 2 rfl rfl)
theorem dX0_dared_5 : decode cX0_dared 5 = .ok (.ifCond .eq 13, 3) := dk_153 0 13 (dk_at dksX0_dared_0 5 rfl rfl)
theorem dX0_dared_8 : decode cX0_dared 8 = .ok (.iload_n 2, 1) := dk_28 (dk_at dksX0_dared_0 8 rfl rfl)
theorem dX0_dared_9 : decode cX0_dared 9 = .ok (.iconst 1, 1) := dk_4 (dk_at dksX0_dared_0 9 rfl rfl)
theorem dX0_dared_10 : decode cX0_dared 10 = .ok (.bipush 9, 2) := dk_16 9 (dk_at dksX0_dared_0 10 rfl rfl)
theorem dX0_dared_12 : decode cX0_dared 12 = .ok (.invokestatic 65, 3) := dk_184 0 65 (dk_at dksX0_dared_0 12 rfl rfl)
theorem dX0_dared_15 : decode cX0_dared 15 = .ok (.ifCond .ne 5, 3) := dk_154 0 5 (dk_at dksX0_dared_0 15 rfl rfl)
theorem dX0_dared_18 : decode cX0_dared 18 = .ok (.iconst (-1), 1) := dk_2 (dk_at dksX0_dared_0 18 rfl rfl)
theorem dX0_dared_19 : decode cX0_dared 19 = .ok (.ireturn, 1) := dk_172 (dk_at dksX0_dared_0 19 rfl rfl)
theorem dX0_dared_20 : decode cX0_dared 20 = .ok (.aload_n 0, 1) := dk_42 (dk_at dksX0_dared_0 20 rfl rfl)
theorem dX0_dared_21 : decode cX0_dared 21 = .ok (.getfield 41, 3) := dk_180 0 41 (dk_at dksX0_dared_0 21 rfl rfl)
theorem dX0_dared_24 : decode cX0_dared 24 = .ok (.iconst 2, 1) := dk_5 (dk_at dksX0_dared_1 0 rfl rfl)
theorem dX0_dared_25 : decode cX0_dared 25 = .ok (.iload_n 1, 1) := dk_27 (dk_at dksX0_dared_1 1 rfl rfl)
theorem dX0_dared_26 : decode cX0_dared 26 = .ok (.iadd, 1) := dk_96 (dk_at dksX0_dared_1 2 rfl rfl)
theorem dX0_dared_27 : decode cX0_dared 27 = .ok (.iaload, 1) := dk_46 (dk_at dksX0_dared_1 3 rfl rfl)
theorem dX0_dared_28 : decode cX0_dared 28 = .ok (.iload_n 3, 1) := dk_29 (dk_at dksX0_dared_1 4 rfl rfl)
theorem dX0_dared_29 : decode cX0_dared 29 = .ok (.iadd, 1) := dk_96 (dk_at dksX0_dared_1 5 rfl rfl)
theorem dX0_dared_30 : decode cX0_dared 30 = .ok (.istore 4, 2) := dk_54 4 (dk_at dksX0_dared_1 6 rfl rfl)
theorem dX0_dared_32 : decode cX0_dared 32 = .ok (.iload 4, 2) := dk_21 4 (dk_at dksX0_dared_1 8 rfl rfl)
theorem dX0_dared_34 : decode cX0_dared 34 = .ok (.invokestatic 173, 3) := dk_184 0 173 (dk_at dksX0_dared_1 10 rfl rfl)
theorem dX0_dared_37 : decode cX0_dared 37 = .ok (.ifCond .ne 6, 3) := dk_154 0 6 (dk_at dksX0_dared_1 13 rfl rfl)
theorem dX0_dared_40 : decode cX0_dared 40 = .ok (.bipush (-4), 2) := dk_16 252 (dk_at dksX0_dared_1 16 rfl rfl)
theorem dX0_dared_42 : decode cX0_dared 42 = .ok (.ireturn, 1) := dk_172 (dk_at dksX0_dared_1 18 rfl rfl)
theorem dX0_dared_43 : decode cX0_dared 43 = .ok (.aload_n 0, 1) := dk_42 (dk_at dksX0_dared_1 19 rfl rfl)
theorem dX0_dared_44 : decode cX0_dared 44 = .ok (.getfield 202, 3) := dk_180 0 202 (dk_at dksX0_dared_1 20 rfl rfl)
theorem dX0_dared_47 : decode cX0_dared 47 = .ok (.bipush 40, 2) := dk_16 40 (dk_at dksX0_dared_2 0 rfl rfl)
theorem dX0_dared_49 : decode cX0_dared 49 = .ok (.if_icmp .ne 6, 3) := dk_160 0 6 (dk_at dksX0_dared_2 2 rfl rfl)
theorem dX0_dared_52 : decode cX0_dared 52 = .ok (.bipush (-2), 2) := dk_16 254 (dk_at dksX0_dared_2 5 rfl rfl)
theorem dX0_dared_54 : decode cX0_dared 54 = .ok (.ireturn, 1) := dk_172 (dk_at dksX0_dared_2 7 rfl rfl)
theorem dX0_dared_55 : decode cX0_dared 55 = .ok (.aload_n 0, 1) := dk_42 (dk_at dksX0_dared_2 8 rfl rfl)
theorem dX0_dared_56 : decode cX0_dared 56 = .ok (.invokevirtual 229, 3) := dk_182 0 229 (dk_at dksX0_dared_2 9 rfl rfl)
theorem dX0_dared_59 : decode cX0_dared 59 = .ok (.aload_n 0, 1) := dk_42 (dk_at dksX0_dared_2 12 rfl rfl)
theorem dX0_dared_60 : decode cX0_dared 60 = .ok (.getfield 41, 3) := dk_180 0 41 (dk_at dksX0_dared_2 13 rfl rfl)
theorem dX0_dared_63 : decode cX0_dared 63 = .ok (.iconst 2, 1) := dk_5 (dk_at dksX0_dared_2 16 rfl rfl)
theorem dX0_dared_64 : decode cX0_dared 64 = .ok (.iload_n 1, 1) := dk_27 (dk_at dksX0_dared_2 17 rfl rfl)
theorem dX0_dared_65 : decode cX0_dared 65 = .ok (.iadd, 1) := dk_96 (dk_at dksX0_dared_2 18 rfl rfl)
theorem dX0_dared_66 : decode cX0_dared 66 = .ok (.iload 4, 2) := dk_21 4 (dk_at dksX0_dared_2 19 rfl rfl)
theorem dX0_dared_68 : decode cX0_dared 68 = .ok (.iastore, 1) := dk_79 (dk_at dksX0_dared_2 21 rfl rfl)
theorem dX0_dared_69 : decode cX0_dared 69 = .ok (.iload 4, 2) := dk_21 4 (dk_at dksX0_dared_2 22 rfl rfl)
theorem dX0_dared_71 : decode cX0_dared 71 = .ok (.ireturn, 1) := dk_172 (dk_at dksX0_dared_3 0 rfl rfl)
abbrev cX0_shame : ByteArray := prog_1_method_48_code
def yX0_shame : MethodName := ⟨RX0, "shame", "(II)I"⟩
def dkwX0_shame_0 : List UInt8 := [42, 27, 28, 28, 116, 182, 0, 235, 172]
abbrev dktX0_shame_0 : List UInt8 := dkwX0_shame_0 ++ []
theorem dksX0_shame_0 : cX0_shame.data.toList.drop 0 = dktX0_shame_0 := by decide +kernel
theorem dX0_shame_0 : decode cX0_shame 0 = .ok (.aload_n 0, 1) := dk_42 (dk_at dksX0_shame_0 0 rfl rfl)
theorem dX0_shame_1 : decode cX0_shame 1 = .ok (.iload_n 1, 1) := dk_27 (dk_at dksX0_shame_0 1 rfl rfl)
theorem dX0_shame_2 : decode cX0_shame 2 = .ok (.iload_n 2, 1) := dk_28 (dk_at dksX0_shame_0 2 rfl rfl)
theorem dX0_shame_3 : decode cX0_shame 3 = .ok (.iload_n 2, 1) := dk_28 (dk_at dksX0_shame_0 3 rfl rfl)
theorem dX0_shame_4 : decode cX0_shame 4 = .ok (.ineg, 1) := dk_116 (dk_at dksX0_shame_0 4 rfl rfl)
theorem dX0_shame_5 : decode cX0_shame 5 = .ok (.invokevirtual 235, 3) := dk_182 0 235 (dk_at dksX0_shame_0 5 rfl rfl)
theorem dX0_shame_8 : decode cX0_shame 8 = .ok (.ireturn, 1) := dk_172 (dk_at dksX0_shame_0 8 rfl rfl)
abbrev cX0_door : ByteArray := prog_1_method_49_code
def yX0_door : MethodName := ⟨RX0, "door", "(II)I"⟩
def dkwX0_door_2 : List UInt8 := [16, 254, 172, 42, 182, 0, 229, 42, 180, 0, 41, 16, 8, 27, 96, 28, 79, 29, 172]
abbrev dktX0_door_2 : List UInt8 := dkwX0_door_2 ++ []
def dkwX0_door_1 : List UInt8 := [16, 8, 27, 96, 46, 62, 29, 28, 160, 0, 6, 16, 252, 172, 42, 180, 0, 202, 16, 40, 160, 0, 6]
abbrev dktX0_door_1 : List UInt8 := dkwX0_door_1 ++ dktX0_door_2
def dkwX0_door_0 : List UInt8 := [42, 27, 182, 0, 208, 153, 0, 13, 28, 3, 16, 9, 184, 0, 65, 154, 0, 5, 2, 172, 42, 180, 0, 41]
abbrev dktX0_door_0 : List UInt8 := dkwX0_door_0 ++ dktX0_door_1
theorem dksX0_door_0 : cX0_door.data.toList.drop 0 = dktX0_door_0 := by decide +kernel
theorem dksX0_door_1 : cX0_door.data.toList.drop 24 = dktX0_door_1 := dk_seg dksX0_door_0 24 rfl rfl
theorem dksX0_door_2 : cX0_door.data.toList.drop 47 = dktX0_door_2 := dk_seg dksX0_door_1 23 rfl rfl
theorem dX0_door_0 : decode cX0_door 0 = .ok (.aload_n 0, 1) := dk_42 (dk_at dksX0_door_0 0 rfl rfl)
theorem dX0_door_1 : decode cX0_door 1 = .ok (.iload_n 1, 1) := dk_27 (dk_at dksX0_door_0 1 rfl rfl)
theorem dX0_door_2 : decode cX0_door 2 = .ok (.invokevirtual 208, 3) := dk_182 0 208 (dk_at dksX0_door_0 2 rfl rfl)
theorem dX0_door_5 : decode cX0_door 5 = .ok (.ifCond .eq 13, 3) := dk_153 0 13 (dk_at dksX0_door_0 5 rfl rfl)
theorem dX0_door_8 : decode cX0_door 8 = .ok (.iload_n 2, 1) := dk_28 (dk_at dksX0_door_0 8 rfl rfl)
theorem dX0_door_9 : decode cX0_door 9 = .ok (.iconst 0, 1) := dk_3 (dk_at dksX0_door_0 9 rfl rfl)
theorem dX0_door_10 : decode cX0_door 10 = .ok (.bipush 9, 2) := dk_16 9 (dk_at dksX0_door_0 10 rfl rfl)
theorem dX0_door_12 : decode cX0_door 12 = .ok (.invokestatic 65, 3) := dk_184 0 65 (dk_at dksX0_door_0 12 rfl rfl)
theorem dX0_door_15 : decode cX0_door 15 = .ok (.ifCond .ne 5, 3) := dk_154 0 5 (dk_at dksX0_door_0 15 rfl rfl)
theorem dX0_door_18 : decode cX0_door 18 = .ok (.iconst (-1), 1) := dk_2 (dk_at dksX0_door_0 18 rfl rfl)
theorem dX0_door_19 : decode cX0_door 19 = .ok (.ireturn, 1) := dk_172 (dk_at dksX0_door_0 19 rfl rfl)
theorem dX0_door_20 : decode cX0_door 20 = .ok (.aload_n 0, 1) := dk_42 (dk_at dksX0_door_0 20 rfl rfl)
theorem dX0_door_21 : decode cX0_door 21 = .ok (.getfield 41, 3) := dk_180 0 41 (dk_at dksX0_door_0 21 rfl rfl)
theorem dX0_door_24 : decode cX0_door 24 = .ok (.bipush 8, 2) := dk_16 8 (dk_at dksX0_door_1 0 rfl rfl)
theorem dX0_door_26 : decode cX0_door 26 = .ok (.iload_n 1, 1) := dk_27 (dk_at dksX0_door_1 2 rfl rfl)
theorem dX0_door_27 : decode cX0_door 27 = .ok (.iadd, 1) := dk_96 (dk_at dksX0_door_1 3 rfl rfl)
theorem dX0_door_28 : decode cX0_door 28 = .ok (.iaload, 1) := dk_46 (dk_at dksX0_door_1 4 rfl rfl)
theorem dX0_door_29 : decode cX0_door 29 = .ok (.istore_n 3, 1) := dk_62 (dk_at dksX0_door_1 5 rfl rfl)
theorem dX0_door_30 : decode cX0_door 30 = .ok (.iload_n 3, 1) := dk_29 (dk_at dksX0_door_1 6 rfl rfl)
theorem dX0_door_31 : decode cX0_door 31 = .ok (.iload_n 2, 1) := dk_28 (dk_at dksX0_door_1 7 rfl rfl)
theorem dX0_door_32 : decode cX0_door 32 = .ok (.if_icmp .ne 6, 3) := dk_160 0 6 (dk_at dksX0_door_1 8 rfl rfl)
theorem dX0_door_35 : decode cX0_door 35 = .ok (.bipush (-4), 2) := dk_16 252 (dk_at dksX0_door_1 11 rfl rfl)
theorem dX0_door_37 : decode cX0_door 37 = .ok (.ireturn, 1) := dk_172 (dk_at dksX0_door_1 13 rfl rfl)
theorem dX0_door_38 : decode cX0_door 38 = .ok (.aload_n 0, 1) := dk_42 (dk_at dksX0_door_1 14 rfl rfl)
theorem dX0_door_39 : decode cX0_door 39 = .ok (.getfield 202, 3) := dk_180 0 202 (dk_at dksX0_door_1 15 rfl rfl)
theorem dX0_door_42 : decode cX0_door 42 = .ok (.bipush 40, 2) := dk_16 40 (dk_at dksX0_door_1 18 rfl rfl)
theorem dX0_door_44 : decode cX0_door 44 = .ok (.if_icmp .ne 6, 3) := dk_160 0 6 (dk_at dksX0_door_1 20 rfl rfl)
theorem dX0_door_47 : decode cX0_door 47 = .ok (.bipush (-2), 2) := dk_16 254 (dk_at dksX0_door_2 0 rfl rfl)
theorem dX0_door_49 : decode cX0_door 49 = .ok (.ireturn, 1) := dk_172 (dk_at dksX0_door_2 2 rfl rfl)
theorem dX0_door_50 : decode cX0_door 50 = .ok (.aload_n 0, 1) := dk_42 (dk_at dksX0_door_2 3 rfl rfl)
theorem dX0_door_51 : decode cX0_door 51 = .ok (.invokevirtual 229, 3) := dk_182 0 229 (dk_at dksX0_door_2 4 rfl rfl)
theorem dX0_door_54 : decode cX0_door 54 = .ok (.aload_n 0, 1) := dk_42 (dk_at dksX0_door_2 7 rfl rfl)
theorem dX0_door_55 : decode cX0_door 55 = .ok (.getfield 41, 3) := dk_180 0 41 (dk_at dksX0_door_2 8 rfl rfl)
theorem dX0_door_58 : decode cX0_door 58 = .ok (.bipush 8, 2) := dk_16 8 (dk_at dksX0_door_2 11 rfl rfl)
theorem dX0_door_60 : decode cX0_door 60 = .ok (.iload_n 1, 1) := dk_27 (dk_at dksX0_door_2 13 rfl rfl)
theorem dX0_door_61 : decode cX0_door 61 = .ok (.iadd, 1) := dk_96 (dk_at dksX0_door_2 14 rfl rfl)
theorem dX0_door_62 : decode cX0_door 62 = .ok (.iload_n 2, 1) := dk_28 (dk_at dksX0_door_2 15 rfl rfl)
theorem dX0_door_63 : decode cX0_door 63 = .ok (.iastore, 1) := dk_79 (dk_at dksX0_door_2 16 rfl rfl)
theorem dX0_door_64 : decode cX0_door 64 = .ok (.iload_n 3, 1) := dk_29 (dk_at dksX0_door_2 17 rfl rfl)
theorem dX0_door_65 : decode cX0_door 65 = .ok (.ireturn, 1) := dk_172 (dk_at dksX0_door_2 18 rfl rfl)
abbrev cX0_undo : ByteArray := prog_1_method_50_code
def yX0_undo : MethodName := ⟨RX0, "undo", "(I)I"⟩
def dkwX0_undo_2 : List UInt8 := [181, 0, 202, 28, 172]
abbrev dktX0_undo_2 : List UInt8 := dkwX0_undo_2 ++ []
def dkwX0_undo_1 : List UInt8 := [158, 0, 21, 42, 180, 0, 47, 16, 20, 27, 104, 42, 180, 0, 41, 3, 16, 20, 184, 0, 87, 42, 27]
abbrev dktX0_undo_1 : List UInt8 := dkwX0_undo_1 ++ dktX0_undo_2
def dkwX0_undo_0 : List UInt8 := [27, 3, 42, 180, 0, 202, 184, 0, 65, 154, 0, 5, 2, 172, 42, 180, 0, 202, 27, 100, 61, 28]
abbrev dktX0_undo_0 : List UInt8 := dkwX0_undo_0 ++ dktX0_undo_1
theorem dksX0_undo_0 : cX0_undo.data.toList.drop 0 = dktX0_undo_0 := by decide +kernel
theorem dksX0_undo_1 : cX0_undo.data.toList.drop 22 = dktX0_undo_1 := dk_seg dksX0_undo_0 22 rfl rfl
theorem dksX0_undo_2 : cX0_undo.data.toList.drop 45 = dktX0_undo_2 := dk_seg dksX0_undo_1 23 rfl rfl
theorem dX0_undo_0 : decode cX0_undo 0 = .ok (.iload_n 1, 1) := dk_27 (dk_at dksX0_undo_0 0 rfl rfl)
theorem dX0_undo_1 : decode cX0_undo 1 = .ok (.iconst 0, 1) := dk_3 (dk_at dksX0_undo_0 1 rfl rfl)
theorem dX0_undo_2 : decode cX0_undo 2 = .ok (.aload_n 0, 1) := dk_42 (dk_at dksX0_undo_0 2 rfl rfl)
theorem dX0_undo_3 : decode cX0_undo 3 = .ok (.getfield 202, 3) := dk_180 0 202 (dk_at dksX0_undo_0 3 rfl rfl)
theorem dX0_undo_6 : decode cX0_undo 6 = .ok (.invokestatic 65, 3) := dk_184 0 65 (dk_at dksX0_undo_0 6 rfl rfl)
theorem dX0_undo_9 : decode cX0_undo 9 = .ok (.ifCond .ne 5, 3) := dk_154 0 5 (dk_at dksX0_undo_0 9 rfl rfl)
theorem dX0_undo_12 : decode cX0_undo 12 = .ok (.iconst (-1), 1) := dk_2 (dk_at dksX0_undo_0 12 rfl rfl)
theorem dX0_undo_13 : decode cX0_undo 13 = .ok (.ireturn, 1) := dk_172 (dk_at dksX0_undo_0 13 rfl rfl)
theorem dX0_undo_14 : decode cX0_undo 14 = .ok (.aload_n 0, 1) := dk_42 (dk_at dksX0_undo_0 14 rfl rfl)
theorem dX0_undo_15 : decode cX0_undo 15 = .ok (.getfield 202, 3) := dk_180 0 202 (dk_at dksX0_undo_0 15 rfl rfl)
theorem dX0_undo_18 : decode cX0_undo 18 = .ok (.iload_n 1, 1) := dk_27 (dk_at dksX0_undo_0 18 rfl rfl)
theorem dX0_undo_19 : decode cX0_undo 19 = .ok (.isub, 1) := dk_100 (dk_at dksX0_undo_0 19 rfl rfl)
theorem dX0_undo_20 : decode cX0_undo 20 = .ok (.istore_n 2, 1) := dk_61 (dk_at dksX0_undo_0 20 rfl rfl)
theorem dX0_undo_21 : decode cX0_undo 21 = .ok (.iload_n 2, 1) := dk_28 (dk_at dksX0_undo_0 21 rfl rfl)
theorem dX0_undo_22 : decode cX0_undo 22 = .ok (.ifCond .le 21, 3) := dk_158 0 21 (dk_at dksX0_undo_1 0 rfl rfl)
theorem dX0_undo_25 : decode cX0_undo 25 = .ok (.aload_n 0, 1) := dk_42 (dk_at dksX0_undo_1 3 rfl rfl)
theorem dX0_undo_26 : decode cX0_undo 26 = .ok (.getfield 47, 3) := dk_180 0 47 (dk_at dksX0_undo_1 4 rfl rfl)
theorem dX0_undo_29 : decode cX0_undo 29 = .ok (.bipush 20, 2) := dk_16 20 (dk_at dksX0_undo_1 7 rfl rfl)
theorem dX0_undo_31 : decode cX0_undo 31 = .ok (.iload_n 1, 1) := dk_27 (dk_at dksX0_undo_1 9 rfl rfl)
theorem dX0_undo_32 : decode cX0_undo 32 = .ok (.imul, 1) := dk_104 (dk_at dksX0_undo_1 10 rfl rfl)
theorem dX0_undo_33 : decode cX0_undo 33 = .ok (.aload_n 0, 1) := dk_42 (dk_at dksX0_undo_1 11 rfl rfl)
theorem dX0_undo_34 : decode cX0_undo 34 = .ok (.getfield 41, 3) := dk_180 0 41 (dk_at dksX0_undo_1 12 rfl rfl)
theorem dX0_undo_37 : decode cX0_undo 37 = .ok (.iconst 0, 1) := dk_3 (dk_at dksX0_undo_1 15 rfl rfl)
theorem dX0_undo_38 : decode cX0_undo 38 = .ok (.bipush 20, 2) := dk_16 20 (dk_at dksX0_undo_1 16 rfl rfl)
theorem dX0_undo_40 : decode cX0_undo 40 = .ok (.invokestatic 87, 3) := dk_184 0 87 (dk_at dksX0_undo_1 18 rfl rfl)
theorem dX0_undo_43 : decode cX0_undo 43 = .ok (.aload_n 0, 1) := dk_42 (dk_at dksX0_undo_1 21 rfl rfl)
theorem dX0_undo_44 : decode cX0_undo 44 = .ok (.iload_n 1, 1) := dk_27 (dk_at dksX0_undo_1 22 rfl rfl)
theorem dX0_undo_45 : decode cX0_undo 45 = .ok (.putfield 202, 3) := dk_181 0 202 (dk_at dksX0_undo_2 0 rfl rfl)
theorem dX0_undo_48 : decode cX0_undo 48 = .ok (.iload_n 2, 1) := dk_28 (dk_at dksX0_undo_2 3 rfl rfl)
theorem dX0_undo_49 : decode cX0_undo 49 = .ok (.ireturn, 1) := dk_172 (dk_at dksX0_undo_2 4 rfl rfl)
abbrev cX0_keep : ByteArray := prog_1_method_51_code
def yX0_keep : MethodName := ⟨RX0, "keep", "(I)I"⟩
def dkwX0_keep_3 : List UInt8 := [42, 180, 0, 50, 27, 44, 83, 42, 180, 0, 202, 172]
abbrev dktX0_keep_3 : List UInt8 := dkwX0_keep_3 ++ []
def dkwX0_keep_2 : List UInt8 := [4, 16, 20, 184, 0, 87, 42, 180, 0, 47, 3, 44, 16, 21, 16, 20, 42, 180, 0, 202, 104, 184, 0, 87]
abbrev dktX0_keep_2 : List UInt8 := dkwX0_keep_2 ++ dktX0_keep_3
def dkwX0_keep_1 : List UInt8 := [42, 180, 0, 202, 4, 96, 104, 96, 188, 10, 77, 44, 3, 42, 180, 0, 202, 79, 42, 180, 0, 41, 3, 44]
abbrev dktX0_keep_1 : List UInt8 := dkwX0_keep_1 ++ dktX0_keep_2
def dkwX0_keep_0 : List UInt8 := [27, 3, 5, 184, 0, 65, 154, 0, 5, 2, 172, 42, 180, 0, 116, 154, 0, 6, 16, 252, 172, 4, 16, 20]
abbrev dktX0_keep_0 : List UInt8 := dkwX0_keep_0 ++ dktX0_keep_1
theorem dksX0_keep_0 : cX0_keep.data.toList.drop 0 = dktX0_keep_0 := by decide +kernel
theorem dksX0_keep_1 : cX0_keep.data.toList.drop 24 = dktX0_keep_1 := dk_seg dksX0_keep_0 24 rfl rfl
theorem dksX0_keep_2 : cX0_keep.data.toList.drop 48 = dktX0_keep_2 := dk_seg dksX0_keep_1 24 rfl rfl
theorem dksX0_keep_3 : cX0_keep.data.toList.drop 72 = dktX0_keep_3 := dk_seg dksX0_keep_2 24 rfl rfl
theorem dX0_keep_0 : decode cX0_keep 0 = .ok (.iload_n 1, 1) := dk_27 (dk_at dksX0_keep_0 0 rfl rfl)
theorem dX0_keep_1 : decode cX0_keep 1 = .ok (.iconst 0, 1) := dk_3 (dk_at dksX0_keep_0 1 rfl rfl)
theorem dX0_keep_2 : decode cX0_keep 2 = .ok (.iconst 2, 1) := dk_5 (dk_at dksX0_keep_0 2 rfl rfl)
theorem dX0_keep_3 : decode cX0_keep 3 = .ok (.invokestatic 65, 3) := dk_184 0 65 (dk_at dksX0_keep_0 3 rfl rfl)
theorem dX0_keep_6 : decode cX0_keep 6 = .ok (.ifCond .ne 5, 3) := dk_154 0 5 (dk_at dksX0_keep_0 6 rfl rfl)
theorem dX0_keep_9 : decode cX0_keep 9 = .ok (.iconst (-1), 1) := dk_2 (dk_at dksX0_keep_0 9 rfl rfl)
theorem dX0_keep_10 : decode cX0_keep 10 = .ok (.ireturn, 1) := dk_172 (dk_at dksX0_keep_0 10 rfl rfl)
theorem dX0_keep_11 : decode cX0_keep 11 = .ok (.aload_n 0, 1) := dk_42 (dk_at dksX0_keep_0 11 rfl rfl)
theorem dX0_keep_12 : decode cX0_keep 12 = .ok (.getfield 116, 3) := dk_180 0 116 (dk_at dksX0_keep_0 12 rfl rfl)
theorem dX0_keep_15 : decode cX0_keep 15 = .ok (.ifCond .ne 6, 3) := dk_154 0 6 (dk_at dksX0_keep_0 15 rfl rfl)
theorem dX0_keep_18 : decode cX0_keep 18 = .ok (.bipush (-4), 2) := dk_16 252 (dk_at dksX0_keep_0 18 rfl rfl)
theorem dX0_keep_20 : decode cX0_keep 20 = .ok (.ireturn, 1) := dk_172 (dk_at dksX0_keep_0 20 rfl rfl)
theorem dX0_keep_21 : decode cX0_keep 21 = .ok (.iconst 1, 1) := dk_4 (dk_at dksX0_keep_0 21 rfl rfl)
theorem dX0_keep_22 : decode cX0_keep 22 = .ok (.bipush 20, 2) := dk_16 20 (dk_at dksX0_keep_0 22 rfl rfl)
theorem dX0_keep_24 : decode cX0_keep 24 = .ok (.aload_n 0, 1) := dk_42 (dk_at dksX0_keep_1 0 rfl rfl)
theorem dX0_keep_25 : decode cX0_keep 25 = .ok (.getfield 202, 3) := dk_180 0 202 (dk_at dksX0_keep_1 1 rfl rfl)
theorem dX0_keep_28 : decode cX0_keep 28 = .ok (.iconst 1, 1) := dk_4 (dk_at dksX0_keep_1 4 rfl rfl)
theorem dX0_keep_29 : decode cX0_keep 29 = .ok (.iadd, 1) := dk_96 (dk_at dksX0_keep_1 5 rfl rfl)
theorem dX0_keep_30 : decode cX0_keep 30 = .ok (.imul, 1) := dk_104 (dk_at dksX0_keep_1 6 rfl rfl)
theorem dX0_keep_31 : decode cX0_keep 31 = .ok (.iadd, 1) := dk_96 (dk_at dksX0_keep_1 7 rfl rfl)
theorem dX0_keep_32 : decode cX0_keep 32 = .ok (.newarray .int, 2) := dk_188_10 (dk_at dksX0_keep_1 8 rfl rfl)
theorem dX0_keep_34 : decode cX0_keep 34 = .ok (.astore_n 2, 1) := dk_77 (dk_at dksX0_keep_1 10 rfl rfl)
theorem dX0_keep_35 : decode cX0_keep 35 = .ok (.aload_n 2, 1) := dk_44 (dk_at dksX0_keep_1 11 rfl rfl)
theorem dX0_keep_36 : decode cX0_keep 36 = .ok (.iconst 0, 1) := dk_3 (dk_at dksX0_keep_1 12 rfl rfl)
theorem dX0_keep_37 : decode cX0_keep 37 = .ok (.aload_n 0, 1) := dk_42 (dk_at dksX0_keep_1 13 rfl rfl)
theorem dX0_keep_38 : decode cX0_keep 38 = .ok (.getfield 202, 3) := dk_180 0 202 (dk_at dksX0_keep_1 14 rfl rfl)
theorem dX0_keep_41 : decode cX0_keep 41 = .ok (.iastore, 1) := dk_79 (dk_at dksX0_keep_1 17 rfl rfl)
theorem dX0_keep_42 : decode cX0_keep 42 = .ok (.aload_n 0, 1) := dk_42 (dk_at dksX0_keep_1 18 rfl rfl)
theorem dX0_keep_43 : decode cX0_keep 43 = .ok (.getfield 41, 3) := dk_180 0 41 (dk_at dksX0_keep_1 19 rfl rfl)
theorem dX0_keep_46 : decode cX0_keep 46 = .ok (.iconst 0, 1) := dk_3 (dk_at dksX0_keep_1 22 rfl rfl)
theorem dX0_keep_47 : decode cX0_keep 47 = .ok (.aload_n 2, 1) := dk_44 (dk_at dksX0_keep_1 23 rfl rfl)
theorem dX0_keep_48 : decode cX0_keep 48 = .ok (.iconst 1, 1) := dk_4 (dk_at dksX0_keep_2 0 rfl rfl)
theorem dX0_keep_49 : decode cX0_keep 49 = .ok (.bipush 20, 2) := dk_16 20 (dk_at dksX0_keep_2 1 rfl rfl)
theorem dX0_keep_51 : decode cX0_keep 51 = .ok (.invokestatic 87, 3) := dk_184 0 87 (dk_at dksX0_keep_2 3 rfl rfl)
theorem dX0_keep_54 : decode cX0_keep 54 = .ok (.aload_n 0, 1) := dk_42 (dk_at dksX0_keep_2 6 rfl rfl)
theorem dX0_keep_55 : decode cX0_keep 55 = .ok (.getfield 47, 3) := dk_180 0 47 (dk_at dksX0_keep_2 7 rfl rfl)
theorem dX0_keep_58 : decode cX0_keep 58 = .ok (.iconst 0, 1) := dk_3 (dk_at dksX0_keep_2 10 rfl rfl)
theorem dX0_keep_59 : decode cX0_keep 59 = .ok (.aload_n 2, 1) := dk_44 (dk_at dksX0_keep_2 11 rfl rfl)
theorem dX0_keep_60 : decode cX0_keep 60 = .ok (.bipush 21, 2) := dk_16 21 (dk_at dksX0_keep_2 12 rfl rfl)
theorem dX0_keep_62 : decode cX0_keep 62 = .ok (.bipush 20, 2) := dk_16 20 (dk_at dksX0_keep_2 14 rfl rfl)
theorem dX0_keep_64 : decode cX0_keep 64 = .ok (.aload_n 0, 1) := dk_42 (dk_at dksX0_keep_2 16 rfl rfl)
theorem dX0_keep_65 : decode cX0_keep 65 = .ok (.getfield 202, 3) := dk_180 0 202 (dk_at dksX0_keep_2 17 rfl rfl)
theorem dX0_keep_68 : decode cX0_keep 68 = .ok (.imul, 1) := dk_104 (dk_at dksX0_keep_2 20 rfl rfl)
theorem dX0_keep_69 : decode cX0_keep 69 = .ok (.invokestatic 87, 3) := dk_184 0 87 (dk_at dksX0_keep_2 21 rfl rfl)
theorem dX0_keep_72 : decode cX0_keep 72 = .ok (.aload_n 0, 1) := dk_42 (dk_at dksX0_keep_3 0 rfl rfl)
theorem dX0_keep_73 : decode cX0_keep 73 = .ok (.getfield 50, 3) := dk_180 0 50 (dk_at dksX0_keep_3 1 rfl rfl)
theorem dX0_keep_76 : decode cX0_keep 76 = .ok (.iload_n 1, 1) := dk_27 (dk_at dksX0_keep_3 4 rfl rfl)
theorem dX0_keep_77 : decode cX0_keep 77 = .ok (.aload_n 2, 1) := dk_44 (dk_at dksX0_keep_3 5 rfl rfl)
theorem dX0_keep_78 : decode cX0_keep 78 = .ok (.aastore, 1) := dk_83 (dk_at dksX0_keep_3 6 rfl rfl)
theorem dX0_keep_79 : decode cX0_keep 79 = .ok (.aload_n 0, 1) := dk_42 (dk_at dksX0_keep_3 7 rfl rfl)
theorem dX0_keep_80 : decode cX0_keep 80 = .ok (.getfield 202, 3) := dk_180 0 202 (dk_at dksX0_keep_3 8 rfl rfl)
theorem dX0_keep_83 : decode cX0_keep 83 = .ok (.ireturn, 1) := dk_172 (dk_at dksX0_keep_3 11 rfl rfl)
abbrev cX0_on : ByteArray := prog_1_method_52_code
def yX0_on : MethodName := ⟨RX0, "on", "(I)I"⟩
def dkwX0_on_3 : List UInt8 := [42, 180, 0, 202, 104, 184, 0, 87, 42, 180, 0, 202, 172]
abbrev dktX0_on_3 : List UInt8 := dkwX0_on_3 ++ []
def dkwX0_on_2 : List UInt8 := [180, 0, 41, 3, 16, 20, 184, 0, 87, 42, 180, 0, 50, 27, 50, 16, 21, 42, 180, 0, 47, 3, 16, 20]
abbrev dktX0_on_2 : List UInt8 := dkwX0_on_2 ++ dktX0_on_3
def dkwX0_on_1 : List UInt8 := [182, 0, 75, 172, 42, 42, 180, 0, 50, 27, 50, 3, 46, 181, 0, 202, 42, 180, 0, 50, 27, 50, 4, 42]
abbrev dktX0_on_1 : List UInt8 := dkwX0_on_1 ++ dktX0_on_2
def dkwX0_on_0 : List UInt8 := [27, 3, 5, 184, 0, 65, 154, 0, 5, 2, 172, 42, 180, 0, 50, 27, 50, 199, 0, 9, 42, 4]
abbrev dktX0_on_0 : List UInt8 := dkwX0_on_0 ++ dktX0_on_1
theorem dksX0_on_0 : cX0_on.data.toList.drop 0 = dktX0_on_0 := by decide +kernel
theorem dksX0_on_1 : cX0_on.data.toList.drop 22 = dktX0_on_1 := dk_seg dksX0_on_0 22 rfl rfl
theorem dksX0_on_2 : cX0_on.data.toList.drop 46 = dktX0_on_2 := dk_seg dksX0_on_1 24 rfl rfl
theorem dksX0_on_3 : cX0_on.data.toList.drop 70 = dktX0_on_3 := dk_seg dksX0_on_2 24 rfl rfl
theorem dX0_on_0 : decode cX0_on 0 = .ok (.iload_n 1, 1) := dk_27 (dk_at dksX0_on_0 0 rfl rfl)
theorem dX0_on_1 : decode cX0_on 1 = .ok (.iconst 0, 1) := dk_3 (dk_at dksX0_on_0 1 rfl rfl)
theorem dX0_on_2 : decode cX0_on 2 = .ok (.iconst 2, 1) := dk_5 (dk_at dksX0_on_0 2 rfl rfl)
theorem dX0_on_3 : decode cX0_on 3 = .ok (.invokestatic 65, 3) := dk_184 0 65 (dk_at dksX0_on_0 3 rfl rfl)
theorem dX0_on_6 : decode cX0_on 6 = .ok (.ifCond .ne 5, 3) := dk_154 0 5 (dk_at dksX0_on_0 6 rfl rfl)
theorem dX0_on_9 : decode cX0_on 9 = .ok (.iconst (-1), 1) := dk_2 (dk_at dksX0_on_0 9 rfl rfl)
theorem dX0_on_10 : decode cX0_on 10 = .ok (.ireturn, 1) := dk_172 (dk_at dksX0_on_0 10 rfl rfl)
theorem dX0_on_11 : decode cX0_on 11 = .ok (.aload_n 0, 1) := dk_42 (dk_at dksX0_on_0 11 rfl rfl)
theorem dX0_on_12 : decode cX0_on 12 = .ok (.getfield 50, 3) := dk_180 0 50 (dk_at dksX0_on_0 12 rfl rfl)
theorem dX0_on_15 : decode cX0_on 15 = .ok (.iload_n 1, 1) := dk_27 (dk_at dksX0_on_0 15 rfl rfl)
theorem dX0_on_16 : decode cX0_on 16 = .ok (.aaload, 1) := dk_50 (dk_at dksX0_on_0 16 rfl rfl)
theorem dX0_on_17 : decode cX0_on 17 = .ok (.ifnonnull 9, 3) := dk_199 0 9 (dk_at dksX0_on_0 17 rfl rfl)
theorem dX0_on_20 : decode cX0_on 20 = .ok (.aload_n 0, 1) := dk_42 (dk_at dksX0_on_0 20 rfl rfl)
theorem dX0_on_21 : decode cX0_on 21 = .ok (.iconst 1, 1) := dk_4 (dk_at dksX0_on_0 21 rfl rfl)
theorem dX0_on_22 : decode cX0_on 22 = .ok (.invokevirtual 75, 3) := dk_182 0 75 (dk_at dksX0_on_1 0 rfl rfl)
theorem dX0_on_25 : decode cX0_on 25 = .ok (.ireturn, 1) := dk_172 (dk_at dksX0_on_1 3 rfl rfl)
theorem dX0_on_26 : decode cX0_on 26 = .ok (.aload_n 0, 1) := dk_42 (dk_at dksX0_on_1 4 rfl rfl)
theorem dX0_on_27 : decode cX0_on 27 = .ok (.aload_n 0, 1) := dk_42 (dk_at dksX0_on_1 5 rfl rfl)
theorem dX0_on_28 : decode cX0_on 28 = .ok (.getfield 50, 3) := dk_180 0 50 (dk_at dksX0_on_1 6 rfl rfl)
theorem dX0_on_31 : decode cX0_on 31 = .ok (.iload_n 1, 1) := dk_27 (dk_at dksX0_on_1 9 rfl rfl)
theorem dX0_on_32 : decode cX0_on 32 = .ok (.aaload, 1) := dk_50 (dk_at dksX0_on_1 10 rfl rfl)
theorem dX0_on_33 : decode cX0_on 33 = .ok (.iconst 0, 1) := dk_3 (dk_at dksX0_on_1 11 rfl rfl)
theorem dX0_on_34 : decode cX0_on 34 = .ok (.iaload, 1) := dk_46 (dk_at dksX0_on_1 12 rfl rfl)
theorem dX0_on_35 : decode cX0_on 35 = .ok (.putfield 202, 3) := dk_181 0 202 (dk_at dksX0_on_1 13 rfl rfl)
theorem dX0_on_38 : decode cX0_on 38 = .ok (.aload_n 0, 1) := dk_42 (dk_at dksX0_on_1 16 rfl rfl)
theorem dX0_on_39 : decode cX0_on 39 = .ok (.getfield 50, 3) := dk_180 0 50 (dk_at dksX0_on_1 17 rfl rfl)
theorem dX0_on_42 : decode cX0_on 42 = .ok (.iload_n 1, 1) := dk_27 (dk_at dksX0_on_1 20 rfl rfl)
theorem dX0_on_43 : decode cX0_on 43 = .ok (.aaload, 1) := dk_50 (dk_at dksX0_on_1 21 rfl rfl)
theorem dX0_on_44 : decode cX0_on 44 = .ok (.iconst 1, 1) := dk_4 (dk_at dksX0_on_1 22 rfl rfl)
theorem dX0_on_45 : decode cX0_on 45 = .ok (.aload_n 0, 1) := dk_42 (dk_at dksX0_on_1 23 rfl rfl)
theorem dX0_on_46 : decode cX0_on 46 = .ok (.getfield 41, 3) := dk_180 0 41 (dk_at dksX0_on_2 0 rfl rfl)
theorem dX0_on_49 : decode cX0_on 49 = .ok (.iconst 0, 1) := dk_3 (dk_at dksX0_on_2 3 rfl rfl)
theorem dX0_on_50 : decode cX0_on 50 = .ok (.bipush 20, 2) := dk_16 20 (dk_at dksX0_on_2 4 rfl rfl)
theorem dX0_on_52 : decode cX0_on 52 = .ok (.invokestatic 87, 3) := dk_184 0 87 (dk_at dksX0_on_2 6 rfl rfl)
theorem dX0_on_55 : decode cX0_on 55 = .ok (.aload_n 0, 1) := dk_42 (dk_at dksX0_on_2 9 rfl rfl)
theorem dX0_on_56 : decode cX0_on 56 = .ok (.getfield 50, 3) := dk_180 0 50 (dk_at dksX0_on_2 10 rfl rfl)
theorem dX0_on_59 : decode cX0_on 59 = .ok (.iload_n 1, 1) := dk_27 (dk_at dksX0_on_2 13 rfl rfl)
theorem dX0_on_60 : decode cX0_on 60 = .ok (.aaload, 1) := dk_50 (dk_at dksX0_on_2 14 rfl rfl)
theorem dX0_on_61 : decode cX0_on 61 = .ok (.bipush 21, 2) := dk_16 21 (dk_at dksX0_on_2 15 rfl rfl)
theorem dX0_on_63 : decode cX0_on 63 = .ok (.aload_n 0, 1) := dk_42 (dk_at dksX0_on_2 17 rfl rfl)
theorem dX0_on_64 : decode cX0_on 64 = .ok (.getfield 47, 3) := dk_180 0 47 (dk_at dksX0_on_2 18 rfl rfl)
theorem dX0_on_67 : decode cX0_on 67 = .ok (.iconst 0, 1) := dk_3 (dk_at dksX0_on_2 21 rfl rfl)
theorem dX0_on_68 : decode cX0_on 68 = .ok (.bipush 20, 2) := dk_16 20 (dk_at dksX0_on_2 22 rfl rfl)
theorem dX0_on_70 : decode cX0_on 70 = .ok (.aload_n 0, 1) := dk_42 (dk_at dksX0_on_3 0 rfl rfl)
theorem dX0_on_71 : decode cX0_on 71 = .ok (.getfield 202, 3) := dk_180 0 202 (dk_at dksX0_on_3 1 rfl rfl)
theorem dX0_on_74 : decode cX0_on 74 = .ok (.imul, 1) := dk_104 (dk_at dksX0_on_3 4 rfl rfl)
theorem dX0_on_75 : decode cX0_on 75 = .ok (.invokestatic 87, 3) := dk_184 0 87 (dk_at dksX0_on_3 5 rfl rfl)
theorem dX0_on_78 : decode cX0_on 78 = .ok (.aload_n 0, 1) := dk_42 (dk_at dksX0_on_3 8 rfl rfl)
theorem dX0_on_79 : decode cX0_on 79 = .ok (.getfield 202, 3) := dk_180 0 202 (dk_at dksX0_on_3 9 rfl rfl)
theorem dX0_on_82 : decode cX0_on 82 = .ok (.ireturn, 1) := dk_172 (dk_at dksX0_on_3 12 rfl rfl)
abbrev cX0_dares : ByteArray := prog_1_method_53_code
def yX0_dares : MethodName := ⟨RX0, "dares", "(IIII)I"⟩
def dkwX0_dares_2 : List UInt8 := [184, 0, 137, 167, 0, 4, 2, 172]
abbrev dktX0_dares_2 : List UInt8 := dkwX0_dares_2 ++ []
def dkwX0_dares_1 : List UInt8 := [153, 0, 30, 21, 4, 3, 16, 9, 184, 0, 65, 153, 0, 19, 42, 180, 0, 37, 27, 50, 28, 29, 21, 4]
abbrev dktX0_dares_1 : List UInt8 := dkwX0_dares_1 ++ dktX0_dares_2
def dkwX0_dares_0 : List UInt8 := [42, 27, 182, 0, 208, 153, 0, 47, 28, 184, 0, 173, 153, 0, 40, 29, 3, 16, 99, 184, 0, 65]
abbrev dktX0_dares_0 : List UInt8 := dkwX0_dares_0 ++ dktX0_dares_1
theorem dksX0_dares_0 : cX0_dares.data.toList.drop 0 = dktX0_dares_0 := by decide +kernel
theorem dksX0_dares_1 : cX0_dares.data.toList.drop 22 = dktX0_dares_1 := dk_seg dksX0_dares_0 22 rfl rfl
theorem dksX0_dares_2 : cX0_dares.data.toList.drop 46 = dktX0_dares_2 := dk_seg dksX0_dares_1 24 rfl rfl
theorem dX0_dares_0 : decode cX0_dares 0 = .ok (.aload_n 0, 1) := dk_42 (dk_at dksX0_dares_0 0 rfl rfl)
theorem dX0_dares_1 : decode cX0_dares 1 = .ok (.iload_n 1, 1) := dk_27 (dk_at dksX0_dares_0 1 rfl rfl)
theorem dX0_dares_2 : decode cX0_dares 2 = .ok (.invokevirtual 208, 3) := dk_182 0 208 (dk_at dksX0_dares_0 2 rfl rfl)
theorem dX0_dares_5 : decode cX0_dares 5 = .ok (.ifCond .eq 47, 3) := dk_153 0 47 (dk_at dksX0_dares_0 5 rfl rfl)
theorem dX0_dares_8 : decode cX0_dares 8 = .ok (.iload_n 2, 1) := dk_28 (dk_at dksX0_dares_0 8 rfl rfl)
theorem dX0_dares_9 : decode cX0_dares 9 = .ok (.invokestatic 173, 3) := dk_184 0 173 (dk_at dksX0_dares_0 9 rfl rfl)
theorem dX0_dares_12 : decode cX0_dares 12 = .ok (.ifCond .eq 40, 3) := dk_153 0 40 (dk_at dksX0_dares_0 12 rfl rfl)
theorem dX0_dares_15 : decode cX0_dares 15 = .ok (.iload_n 3, 1) := dk_29 (dk_at dksX0_dares_0 15 rfl rfl)
theorem dX0_dares_16 : decode cX0_dares 16 = .ok (.iconst 0, 1) := dk_3 (dk_at dksX0_dares_0 16 rfl rfl)
theorem dX0_dares_17 : decode cX0_dares 17 = .ok (.bipush 99, 2) := dk_16 99 (dk_at dksX0_dares_0 17 rfl rfl)
theorem dX0_dares_19 : decode cX0_dares 19 = .ok (.invokestatic 65, 3) := dk_184 0 65 (dk_at dksX0_dares_0 19 rfl rfl)
theorem dX0_dares_22 : decode cX0_dares 22 = .ok (.ifCond .eq 30, 3) := dk_153 0 30 (dk_at dksX0_dares_1 0 rfl rfl)
theorem dX0_dares_25 : decode cX0_dares 25 = .ok (.iload 4, 2) := dk_21 4 (dk_at dksX0_dares_1 3 rfl rfl)
theorem dX0_dares_27 : decode cX0_dares 27 = .ok (.iconst 0, 1) := dk_3 (dk_at dksX0_dares_1 5 rfl rfl)
theorem dX0_dares_28 : decode cX0_dares 28 = .ok (.bipush 9, 2) := dk_16 9 (dk_at dksX0_dares_1 6 rfl rfl)
theorem dX0_dares_30 : decode cX0_dares 30 = .ok (.invokestatic 65, 3) := dk_184 0 65 (dk_at dksX0_dares_1 8 rfl rfl)
theorem dX0_dares_33 : decode cX0_dares 33 = .ok (.ifCond .eq 19, 3) := dk_153 0 19 (dk_at dksX0_dares_1 11 rfl rfl)
theorem dX0_dares_36 : decode cX0_dares 36 = .ok (.aload_n 0, 1) := dk_42 (dk_at dksX0_dares_1 14 rfl rfl)
theorem dX0_dares_37 : decode cX0_dares 37 = .ok (.getfield 37, 3) := dk_180 0 37 (dk_at dksX0_dares_1 15 rfl rfl)
theorem dX0_dares_40 : decode cX0_dares 40 = .ok (.iload_n 1, 1) := dk_27 (dk_at dksX0_dares_1 18 rfl rfl)
theorem dX0_dares_41 : decode cX0_dares 41 = .ok (.aaload, 1) := dk_50 (dk_at dksX0_dares_1 19 rfl rfl)
theorem dX0_dares_42 : decode cX0_dares 42 = .ok (.iload_n 2, 1) := dk_28 (dk_at dksX0_dares_1 20 rfl rfl)
theorem dX0_dares_43 : decode cX0_dares 43 = .ok (.iload_n 3, 1) := dk_29 (dk_at dksX0_dares_1 21 rfl rfl)
theorem dX0_dares_44 : decode cX0_dares 44 = .ok (.iload 4, 2) := dk_21 4 (dk_at dksX0_dares_1 22 rfl rfl)
theorem dX0_dares_46 : decode cX0_dares 46 = .ok (.invokestatic 137, 3) := dk_184 0 137 (dk_at dksX0_dares_2 0 rfl rfl)
theorem dX0_dares_49 : decode cX0_dares 49 = .ok (.goto 4, 3) := dk_167 0 4 (dk_at dksX0_dares_2 3 rfl rfl)
theorem dX0_dares_52 : decode cX0_dares 52 = .ok (.iconst (-1), 1) := dk_2 (dk_at dksX0_dares_2 6 rfl rfl)
theorem dX0_dares_53 : decode cX0_dares 53 = .ok (.ireturn, 1) := dk_172 (dk_at dksX0_dares_2 7 rfl rfl)
abbrev cX0_where : ByteArray := prog_1_method_54_code
def yX0_where : MethodName := ⟨RX0, "where", "(I)I"⟩
def dkwX0_where_2 : List UInt8 := [42, 29, 42, 180, 0, 41, 16, 21, 46, 182, 0, 79, 172]
abbrev dktX0_where_2 : List UInt8 := dkwX0_where_2 ++ []
def dkwX0_where_1 : List UInt8 := [16, 247, 62, 3, 54, 4, 21, 4, 27, 162, 0, 15, 42, 4, 182, 0, 232, 62, 132, 4, 1, 167, 255, 241]
abbrev dktX0_where_1 : List UInt8 := dkwX0_where_1 ++ dktX0_where_2
def dkwX0_where_0 : List UInt8 := [42, 27, 3, 16, 40, 184, 0, 65, 182, 0, 238, 61, 28, 156, 0, 5, 28, 172, 42, 3, 4, 182, 0, 242]
abbrev dktX0_where_0 : List UInt8 := dkwX0_where_0 ++ dktX0_where_1
theorem dksX0_where_0 : cX0_where.data.toList.drop 0 = dktX0_where_0 := by decide +kernel
theorem dksX0_where_1 : cX0_where.data.toList.drop 24 = dktX0_where_1 := dk_seg dksX0_where_0 24 rfl rfl
theorem dksX0_where_2 : cX0_where.data.toList.drop 48 = dktX0_where_2 := dk_seg dksX0_where_1 24 rfl rfl
theorem dX0_where_0 : decode cX0_where 0 = .ok (.aload_n 0, 1) := dk_42 (dk_at dksX0_where_0 0 rfl rfl)
theorem dX0_where_1 : decode cX0_where 1 = .ok (.iload_n 1, 1) := dk_27 (dk_at dksX0_where_0 1 rfl rfl)
theorem dX0_where_2 : decode cX0_where 2 = .ok (.iconst 0, 1) := dk_3 (dk_at dksX0_where_0 2 rfl rfl)
theorem dX0_where_3 : decode cX0_where 3 = .ok (.bipush 40, 2) := dk_16 40 (dk_at dksX0_where_0 3 rfl rfl)
theorem dX0_where_5 : decode cX0_where 5 = .ok (.invokestatic 65, 3) := dk_184 0 65 (dk_at dksX0_where_0 5 rfl rfl)
theorem dX0_where_8 : decode cX0_where 8 = .ok (.invokevirtual 238, 3) := dk_182 0 238 (dk_at dksX0_where_0 8 rfl rfl)
theorem dX0_where_11 : decode cX0_where 11 = .ok (.istore_n 2, 1) := dk_61 (dk_at dksX0_where_0 11 rfl rfl)
theorem dX0_where_12 : decode cX0_where 12 = .ok (.iload_n 2, 1) := dk_28 (dk_at dksX0_where_0 12 rfl rfl)
theorem dX0_where_13 : decode cX0_where 13 = .ok (.ifCond .ge 5, 3) := dk_156 0 5 (dk_at dksX0_where_0 13 rfl rfl)
theorem dX0_where_16 : decode cX0_where 16 = .ok (.iload_n 2, 1) := dk_28 (dk_at dksX0_where_0 16 rfl rfl)
theorem dX0_where_17 : decode cX0_where 17 = .ok (.ireturn, 1) := dk_172 (dk_at dksX0_where_0 17 rfl rfl)
theorem dX0_where_18 : decode cX0_where 18 = .ok (.aload_n 0, 1) := dk_42 (dk_at dksX0_where_0 18 rfl rfl)
theorem dX0_where_19 : decode cX0_where 19 = .ok (.iconst 0, 1) := dk_3 (dk_at dksX0_where_0 19 rfl rfl)
theorem dX0_where_20 : decode cX0_where 20 = .ok (.iconst 1, 1) := dk_4 (dk_at dksX0_where_0 20 rfl rfl)
theorem dX0_where_21 : decode cX0_where 21 = .ok (.invokevirtual 242, 3) := dk_182 0 242 (dk_at dksX0_where_0 21 rfl rfl)
theorem dX0_where_24 : decode cX0_where 24 = .ok (.bipush (-9), 2) := dk_16 247 (dk_at dksX0_where_1 0 rfl rfl)
theorem dX0_where_26 : decode cX0_where 26 = .ok (.istore_n 3, 1) := dk_62 (dk_at dksX0_where_1 2 rfl rfl)
theorem dX0_where_27 : decode cX0_where 27 = .ok (.iconst 0, 1) := dk_3 (dk_at dksX0_where_1 3 rfl rfl)
theorem dX0_where_28 : decode cX0_where 28 = .ok (.istore 4, 2) := dk_54 4 (dk_at dksX0_where_1 4 rfl rfl)
theorem dX0_where_30 : decode cX0_where 30 = .ok (.iload 4, 2) := dk_21 4 (dk_at dksX0_where_1 6 rfl rfl)
theorem dX0_where_32 : decode cX0_where 32 = .ok (.iload_n 1, 1) := dk_27 (dk_at dksX0_where_1 8 rfl rfl)
theorem dX0_where_33 : decode cX0_where 33 = .ok (.if_icmp .ge 15, 3) := dk_162 0 15 (dk_at dksX0_where_1 9 rfl rfl)
theorem dX0_where_36 : decode cX0_where 36 = .ok (.aload_n 0, 1) := dk_42 (dk_at dksX0_where_1 12 rfl rfl)
theorem dX0_where_37 : decode cX0_where 37 = .ok (.iconst 1, 1) := dk_4 (dk_at dksX0_where_1 13 rfl rfl)
theorem dX0_where_38 : decode cX0_where 38 = .ok (.invokevirtual 232, 3) := dk_182 0 232 (dk_at dksX0_where_1 14 rfl rfl)
theorem dX0_where_41 : decode cX0_where 41 = .ok (.istore_n 3, 1) := dk_62 (dk_at dksX0_where_1 17 rfl rfl)
theorem dX0_where_42 : decode cX0_where 42 = .ok (.iinc 4 1, 3) := dk_132 4 1 (dk_at dksX0_where_1 18 rfl rfl)
theorem dX0_where_45 : decode cX0_where 45 = .ok (.goto (-15), 3) := dk_167 255 241 (dk_at dksX0_where_1 21 rfl rfl)
theorem dX0_where_48 : decode cX0_where 48 = .ok (.aload_n 0, 1) := dk_42 (dk_at dksX0_where_2 0 rfl rfl)
theorem dX0_where_49 : decode cX0_where 49 = .ok (.iload_n 3, 1) := dk_29 (dk_at dksX0_where_2 1 rfl rfl)
theorem dX0_where_50 : decode cX0_where 50 = .ok (.aload_n 0, 1) := dk_42 (dk_at dksX0_where_2 2 rfl rfl)
theorem dX0_where_51 : decode cX0_where 51 = .ok (.getfield 41, 3) := dk_180 0 41 (dk_at dksX0_where_2 3 rfl rfl)
theorem dX0_where_54 : decode cX0_where 54 = .ok (.bipush 21, 2) := dk_16 21 (dk_at dksX0_where_2 6 rfl rfl)
theorem dX0_where_56 : decode cX0_where 56 = .ok (.iaload, 1) := dk_46 (dk_at dksX0_where_2 8 rfl rfl)
theorem dX0_where_57 : decode cX0_where 57 = .ok (.invokevirtual 79, 3) := dk_182 0 79 (dk_at dksX0_where_2 9 rfl rfl)
theorem dX0_where_60 : decode cX0_where 60 = .ok (.ireturn, 1) := dk_172 (dk_at dksX0_where_2 12 rfl rfl)
abbrev cX0_need : ByteArray := prog_1_method_44_code
def yX0_need : MethodName := ⟨RX0, "need", "(Z)I"⟩
def dkwX0_need_0 : List UInt8 := [27, 154, 0, 7, 2, 167, 0, 16, 42, 180, 0, 116, 154, 0, 8, 16, 252, 167, 0, 4, 3, 172]
abbrev dktX0_need_0 : List UInt8 := dkwX0_need_0 ++ []
theorem dksX0_need_0 : cX0_need.data.toList.drop 0 = dktX0_need_0 := by decide +kernel
theorem dX0_need_0 : decode cX0_need 0 = .ok (.iload_n 1, 1) := dk_27 (dk_at dksX0_need_0 0 rfl rfl)
theorem dX0_need_1 : decode cX0_need 1 = .ok (.ifCond .ne 7, 3) := dk_154 0 7 (dk_at dksX0_need_0 1 rfl rfl)
theorem dX0_need_4 : decode cX0_need 4 = .ok (.iconst (-1), 1) := dk_2 (dk_at dksX0_need_0 4 rfl rfl)
theorem dX0_need_5 : decode cX0_need 5 = .ok (.goto 16, 3) := dk_167 0 16 (dk_at dksX0_need_0 5 rfl rfl)
theorem dX0_need_8 : decode cX0_need 8 = .ok (.aload_n 0, 1) := dk_42 (dk_at dksX0_need_0 8 rfl rfl)
theorem dX0_need_9 : decode cX0_need 9 = .ok (.getfield 116, 3) := dk_180 0 116 (dk_at dksX0_need_0 9 rfl rfl)
theorem dX0_need_12 : decode cX0_need 12 = .ok (.ifCond .ne 8, 3) := dk_154 0 8 (dk_at dksX0_need_0 12 rfl rfl)
theorem dX0_need_15 : decode cX0_need 15 = .ok (.bipush (-4), 2) := dk_16 252 (dk_at dksX0_need_0 15 rfl rfl)
theorem dX0_need_17 : decode cX0_need 17 = .ok (.goto 4, 3) := dk_167 0 4 (dk_at dksX0_need_0 17 rfl rfl)
theorem dX0_need_20 : decode cX0_need 20 = .ok (.iconst 0, 1) := dk_3 (dk_at dksX0_need_0 20 rfl rfl)
theorem dX0_need_21 : decode cX0_need 21 = .ok (.ireturn, 1) := dk_172 (dk_at dksX0_need_0 21 rfl rfl)
abbrev cX0_frame : ByteArray := prog_1_method_30_code
def yX0_frame : MethodName := ⟨RX0, "frame", "(II)V"⟩
def dkwX0_frame_0 : List UInt8 := [42, 180, 0, 41, 16, 20, 27, 104, 42, 180, 0, 41, 16, 20, 28, 104, 16, 20, 184, 0, 87, 177]
abbrev dktX0_frame_0 : List UInt8 := dkwX0_frame_0 ++ []
theorem dksX0_frame_0 : cX0_frame.data.toList.drop 0 = dktX0_frame_0 := by decide +kernel
theorem dX0_frame_0 : decode cX0_frame 0 = .ok (.aload_n 0, 1) := dk_42 (dk_at dksX0_frame_0 0 rfl rfl)
theorem dX0_frame_1 : decode cX0_frame 1 = .ok (.getfield 41, 3) := dk_180 0 41 (dk_at dksX0_frame_0 1 rfl rfl)
theorem dX0_frame_4 : decode cX0_frame 4 = .ok (.bipush 20, 2) := dk_16 20 (dk_at dksX0_frame_0 4 rfl rfl)
theorem dX0_frame_6 : decode cX0_frame 6 = .ok (.iload_n 1, 1) := dk_27 (dk_at dksX0_frame_0 6 rfl rfl)
theorem dX0_frame_7 : decode cX0_frame 7 = .ok (.imul, 1) := dk_104 (dk_at dksX0_frame_0 7 rfl rfl)
theorem dX0_frame_8 : decode cX0_frame 8 = .ok (.aload_n 0, 1) := dk_42 (dk_at dksX0_frame_0 8 rfl rfl)
theorem dX0_frame_9 : decode cX0_frame 9 = .ok (.getfield 41, 3) := dk_180 0 41 (dk_at dksX0_frame_0 9 rfl rfl)
theorem dX0_frame_12 : decode cX0_frame 12 = .ok (.bipush 20, 2) := dk_16 20 (dk_at dksX0_frame_0 12 rfl rfl)
theorem dX0_frame_14 : decode cX0_frame 14 = .ok (.iload_n 2, 1) := dk_28 (dk_at dksX0_frame_0 14 rfl rfl)
theorem dX0_frame_15 : decode cX0_frame 15 = .ok (.imul, 1) := dk_104 (dk_at dksX0_frame_0 15 rfl rfl)
theorem dX0_frame_16 : decode cX0_frame 16 = .ok (.bipush 20, 2) := dk_16 20 (dk_at dksX0_frame_0 16 rfl rfl)
theorem dX0_frame_18 : decode cX0_frame 18 = .ok (.invokestatic 87, 3) := dk_184 0 87 (dk_at dksX0_frame_0 18 rfl rfl)
theorem dX0_frame_21 : decode cX0_frame 21 = .ok (.return_, 1) := dk_177 (dk_at dksX0_frame_0 21 rfl rfl)
abbrev cX0_crosses : ByteArray := prog_1_method_55_code
def yX0_crosses : MethodName := ⟨RX0, "crosses", "(II)I"⟩
def dkwX0_crosses_2 : List UInt8 := [4, 167, 0, 4, 3, 96, 62, 132, 4, 1, 167, 255, 230, 29, 172]
abbrev dktX0_crosses_2 : List UInt8 := dkwX0_crosses_2 ++ []
def dkwX0_crosses_1 : List UInt8 := [182, 0, 242, 3, 62, 3, 54, 4, 21, 4, 28, 162, 0, 26, 29, 42, 4, 182, 0, 232, 27, 160, 0, 7]
abbrev dktX0_crosses_1 : List UInt8 := dkwX0_crosses_1 ++ dktX0_crosses_2
def dkwX0_crosses_0 : List UInt8 := [42, 27, 182, 0, 208, 153, 0, 13, 28, 3, 16, 40, 184, 0, 65, 154, 0, 5, 2, 172, 42, 3, 4]
abbrev dktX0_crosses_0 : List UInt8 := dkwX0_crosses_0 ++ dktX0_crosses_1
theorem dksX0_crosses_0 : cX0_crosses.data.toList.drop 0 = dktX0_crosses_0 := by decide +kernel
theorem dksX0_crosses_1 : cX0_crosses.data.toList.drop 23 = dktX0_crosses_1 := dk_seg dksX0_crosses_0 23 rfl rfl
theorem dksX0_crosses_2 : cX0_crosses.data.toList.drop 47 = dktX0_crosses_2 := dk_seg dksX0_crosses_1 24 rfl rfl
theorem dX0_crosses_0 : decode cX0_crosses 0 = .ok (.aload_n 0, 1) := dk_42 (dk_at dksX0_crosses_0 0 rfl rfl)
theorem dX0_crosses_1 : decode cX0_crosses 1 = .ok (.iload_n 1, 1) := dk_27 (dk_at dksX0_crosses_0 1 rfl rfl)
theorem dX0_crosses_2 : decode cX0_crosses 2 = .ok (.invokevirtual 208, 3) := dk_182 0 208 (dk_at dksX0_crosses_0 2 rfl rfl)
theorem dX0_crosses_5 : decode cX0_crosses 5 = .ok (.ifCond .eq 13, 3) := dk_153 0 13 (dk_at dksX0_crosses_0 5 rfl rfl)
theorem dX0_crosses_8 : decode cX0_crosses 8 = .ok (.iload_n 2, 1) := dk_28 (dk_at dksX0_crosses_0 8 rfl rfl)
theorem dX0_crosses_9 : decode cX0_crosses 9 = .ok (.iconst 0, 1) := dk_3 (dk_at dksX0_crosses_0 9 rfl rfl)
theorem dX0_crosses_10 : decode cX0_crosses 10 = .ok (.bipush 40, 2) := dk_16 40 (dk_at dksX0_crosses_0 10 rfl rfl)
theorem dX0_crosses_12 : decode cX0_crosses 12 = .ok (.invokestatic 65, 3) := dk_184 0 65 (dk_at dksX0_crosses_0 12 rfl rfl)
theorem dX0_crosses_15 : decode cX0_crosses 15 = .ok (.ifCond .ne 5, 3) := dk_154 0 5 (dk_at dksX0_crosses_0 15 rfl rfl)
theorem dX0_crosses_18 : decode cX0_crosses 18 = .ok (.iconst (-1), 1) := dk_2 (dk_at dksX0_crosses_0 18 rfl rfl)
theorem dX0_crosses_19 : decode cX0_crosses 19 = .ok (.ireturn, 1) := dk_172 (dk_at dksX0_crosses_0 19 rfl rfl)
theorem dX0_crosses_20 : decode cX0_crosses 20 = .ok (.aload_n 0, 1) := dk_42 (dk_at dksX0_crosses_0 20 rfl rfl)
theorem dX0_crosses_21 : decode cX0_crosses 21 = .ok (.iconst 0, 1) := dk_3 (dk_at dksX0_crosses_0 21 rfl rfl)
theorem dX0_crosses_22 : decode cX0_crosses 22 = .ok (.iconst 1, 1) := dk_4 (dk_at dksX0_crosses_0 22 rfl rfl)
theorem dX0_crosses_23 : decode cX0_crosses 23 = .ok (.invokevirtual 242, 3) := dk_182 0 242 (dk_at dksX0_crosses_1 0 rfl rfl)
theorem dX0_crosses_26 : decode cX0_crosses 26 = .ok (.iconst 0, 1) := dk_3 (dk_at dksX0_crosses_1 3 rfl rfl)
theorem dX0_crosses_27 : decode cX0_crosses 27 = .ok (.istore_n 3, 1) := dk_62 (dk_at dksX0_crosses_1 4 rfl rfl)
theorem dX0_crosses_28 : decode cX0_crosses 28 = .ok (.iconst 0, 1) := dk_3 (dk_at dksX0_crosses_1 5 rfl rfl)
theorem dX0_crosses_29 : decode cX0_crosses 29 = .ok (.istore 4, 2) := dk_54 4 (dk_at dksX0_crosses_1 6 rfl rfl)
theorem dX0_crosses_31 : decode cX0_crosses 31 = .ok (.iload 4, 2) := dk_21 4 (dk_at dksX0_crosses_1 8 rfl rfl)
theorem dX0_crosses_33 : decode cX0_crosses 33 = .ok (.iload_n 2, 1) := dk_28 (dk_at dksX0_crosses_1 10 rfl rfl)
theorem dX0_crosses_34 : decode cX0_crosses 34 = .ok (.if_icmp .ge 26, 3) := dk_162 0 26 (dk_at dksX0_crosses_1 11 rfl rfl)
theorem dX0_crosses_37 : decode cX0_crosses 37 = .ok (.iload_n 3, 1) := dk_29 (dk_at dksX0_crosses_1 14 rfl rfl)
theorem dX0_crosses_38 : decode cX0_crosses 38 = .ok (.aload_n 0, 1) := dk_42 (dk_at dksX0_crosses_1 15 rfl rfl)
theorem dX0_crosses_39 : decode cX0_crosses 39 = .ok (.iconst 1, 1) := dk_4 (dk_at dksX0_crosses_1 16 rfl rfl)
theorem dX0_crosses_40 : decode cX0_crosses 40 = .ok (.invokevirtual 232, 3) := dk_182 0 232 (dk_at dksX0_crosses_1 17 rfl rfl)
theorem dX0_crosses_43 : decode cX0_crosses 43 = .ok (.iload_n 1, 1) := dk_27 (dk_at dksX0_crosses_1 20 rfl rfl)
theorem dX0_crosses_44 : decode cX0_crosses 44 = .ok (.if_icmp .ne 7, 3) := dk_160 0 7 (dk_at dksX0_crosses_1 21 rfl rfl)
theorem dX0_crosses_47 : decode cX0_crosses 47 = .ok (.iconst 1, 1) := dk_4 (dk_at dksX0_crosses_2 0 rfl rfl)
theorem dX0_crosses_48 : decode cX0_crosses 48 = .ok (.goto 4, 3) := dk_167 0 4 (dk_at dksX0_crosses_2 1 rfl rfl)
theorem dX0_crosses_51 : decode cX0_crosses 51 = .ok (.iconst 0, 1) := dk_3 (dk_at dksX0_crosses_2 4 rfl rfl)
theorem dX0_crosses_52 : decode cX0_crosses 52 = .ok (.iadd, 1) := dk_96 (dk_at dksX0_crosses_2 5 rfl rfl)
theorem dX0_crosses_53 : decode cX0_crosses 53 = .ok (.istore_n 3, 1) := dk_62 (dk_at dksX0_crosses_2 6 rfl rfl)
theorem dX0_crosses_54 : decode cX0_crosses 54 = .ok (.iinc 4 1, 3) := dk_132 4 1 (dk_at dksX0_crosses_2 7 rfl rfl)
theorem dX0_crosses_57 : decode cX0_crosses 57 = .ok (.goto (-26), 3) := dk_167 255 230 (dk_at dksX0_crosses_2 10 rfl rfl)
theorem dX0_crosses_60 : decode cX0_crosses 60 = .ok (.iload_n 3, 1) := dk_29 (dk_at dksX0_crosses_2 13 rfl rfl)
theorem dX0_crosses_61 : decode cX0_crosses 61 = .ok (.ireturn, 1) := dk_172 (dk_at dksX0_crosses_2 14 rfl rfl)
abbrev cX0_first : ByteArray := prog_1_method_56_code
def yX0_first : MethodName := ⟨RX0, "first", "(I)I"⟩
def dkwX0_first_1 : List UInt8 := [42, 4, 182, 0, 232, 27, 160, 0, 5, 28, 172, 132, 2, 1, 167, 255, 236, 16, 247, 172]
abbrev dktX0_first_1 : List UInt8 := dkwX0_first_1 ++ []
def dkwX0_first_0 : List UInt8 := [42, 27, 182, 0, 208, 154, 0, 5, 2, 172, 42, 3, 4, 182, 0, 242, 4, 61, 28, 16, 40, 163, 0, 20]
abbrev dktX0_first_0 : List UInt8 := dkwX0_first_0 ++ dktX0_first_1
theorem dksX0_first_0 : cX0_first.data.toList.drop 0 = dktX0_first_0 := by decide +kernel
theorem dksX0_first_1 : cX0_first.data.toList.drop 24 = dktX0_first_1 := dk_seg dksX0_first_0 24 rfl rfl
theorem dX0_first_0 : decode cX0_first 0 = .ok (.aload_n 0, 1) := dk_42 (dk_at dksX0_first_0 0 rfl rfl)
theorem dX0_first_1 : decode cX0_first 1 = .ok (.iload_n 1, 1) := dk_27 (dk_at dksX0_first_0 1 rfl rfl)
theorem dX0_first_2 : decode cX0_first 2 = .ok (.invokevirtual 208, 3) := dk_182 0 208 (dk_at dksX0_first_0 2 rfl rfl)
theorem dX0_first_5 : decode cX0_first 5 = .ok (.ifCond .ne 5, 3) := dk_154 0 5 (dk_at dksX0_first_0 5 rfl rfl)
theorem dX0_first_8 : decode cX0_first 8 = .ok (.iconst (-1), 1) := dk_2 (dk_at dksX0_first_0 8 rfl rfl)
theorem dX0_first_9 : decode cX0_first 9 = .ok (.ireturn, 1) := dk_172 (dk_at dksX0_first_0 9 rfl rfl)
theorem dX0_first_10 : decode cX0_first 10 = .ok (.aload_n 0, 1) := dk_42 (dk_at dksX0_first_0 10 rfl rfl)
theorem dX0_first_11 : decode cX0_first 11 = .ok (.iconst 0, 1) := dk_3 (dk_at dksX0_first_0 11 rfl rfl)
theorem dX0_first_12 : decode cX0_first 12 = .ok (.iconst 1, 1) := dk_4 (dk_at dksX0_first_0 12 rfl rfl)
theorem dX0_first_13 : decode cX0_first 13 = .ok (.invokevirtual 242, 3) := dk_182 0 242 (dk_at dksX0_first_0 13 rfl rfl)
theorem dX0_first_16 : decode cX0_first 16 = .ok (.iconst 1, 1) := dk_4 (dk_at dksX0_first_0 16 rfl rfl)
theorem dX0_first_17 : decode cX0_first 17 = .ok (.istore_n 2, 1) := dk_61 (dk_at dksX0_first_0 17 rfl rfl)
theorem dX0_first_18 : decode cX0_first 18 = .ok (.iload_n 2, 1) := dk_28 (dk_at dksX0_first_0 18 rfl rfl)
theorem dX0_first_19 : decode cX0_first 19 = .ok (.bipush 40, 2) := dk_16 40 (dk_at dksX0_first_0 19 rfl rfl)
theorem dX0_first_21 : decode cX0_first 21 = .ok (.if_icmp .gt 20, 3) := dk_163 0 20 (dk_at dksX0_first_0 21 rfl rfl)
theorem dX0_first_24 : decode cX0_first 24 = .ok (.aload_n 0, 1) := dk_42 (dk_at dksX0_first_1 0 rfl rfl)
theorem dX0_first_25 : decode cX0_first 25 = .ok (.iconst 1, 1) := dk_4 (dk_at dksX0_first_1 1 rfl rfl)
theorem dX0_first_26 : decode cX0_first 26 = .ok (.invokevirtual 232, 3) := dk_182 0 232 (dk_at dksX0_first_1 2 rfl rfl)
theorem dX0_first_29 : decode cX0_first 29 = .ok (.iload_n 1, 1) := dk_27 (dk_at dksX0_first_1 5 rfl rfl)
theorem dX0_first_30 : decode cX0_first 30 = .ok (.if_icmp .ne 5, 3) := dk_160 0 5 (dk_at dksX0_first_1 6 rfl rfl)
theorem dX0_first_33 : decode cX0_first 33 = .ok (.iload_n 2, 1) := dk_28 (dk_at dksX0_first_1 9 rfl rfl)
theorem dX0_first_34 : decode cX0_first 34 = .ok (.ireturn, 1) := dk_172 (dk_at dksX0_first_1 10 rfl rfl)
theorem dX0_first_35 : decode cX0_first 35 = .ok (.iinc 2 1, 3) := dk_132 2 1 (dk_at dksX0_first_1 11 rfl rfl)
theorem dX0_first_38 : decode cX0_first 38 = .ok (.goto (-20), 3) := dk_167 255 236 (dk_at dksX0_first_1 14 rfl rfl)
theorem dX0_first_41 : decode cX0_first 41 = .ok (.bipush (-9), 2) := dk_16 247 (dk_at dksX0_first_1 17 rfl rfl)
theorem dX0_first_43 : decode cX0_first 43 = .ok (.ireturn, 1) := dk_172 (dk_at dksX0_first_1 19 rfl rfl)
abbrev cX0_lift : ByteArray := prog_1_method_58_code
def yX0_lift : MethodName := ⟨RX0, "lift", "(II)I"⟩
def dkwX0_lift_2 : List UInt8 := [29, 96, 28, 182, 0, 246, 27, 160, 0, 5, 29, 172, 132, 3, 1, 167, 255, 216, 16, 247, 172]
abbrev dktX0_lift_2 : List UInt8 := dkwX0_lift_2 ++ []
def dkwX0_lift_1 : List UInt8 := [180, 0, 41, 5, 27, 96, 46, 29, 96, 16, 20, 163, 0, 31, 42, 27, 42, 180, 0, 41, 5, 27, 96, 46]
abbrev dktX0_lift_1 : List UInt8 := dkwX0_lift_1 ++ dktX0_lift_2
def dkwX0_lift_0 : List UInt8 := [42, 27, 182, 0, 208, 153, 0, 13, 28, 4, 16, 20, 184, 0, 65, 154, 0, 5, 2, 172, 3, 62, 42]
abbrev dktX0_lift_0 : List UInt8 := dkwX0_lift_0 ++ dktX0_lift_1
theorem dksX0_lift_0 : cX0_lift.data.toList.drop 0 = dktX0_lift_0 := by decide +kernel
theorem dksX0_lift_1 : cX0_lift.data.toList.drop 23 = dktX0_lift_1 := dk_seg dksX0_lift_0 23 rfl rfl
theorem dksX0_lift_2 : cX0_lift.data.toList.drop 47 = dktX0_lift_2 := dk_seg dksX0_lift_1 24 rfl rfl
theorem dX0_lift_0 : decode cX0_lift 0 = .ok (.aload_n 0, 1) := dk_42 (dk_at dksX0_lift_0 0 rfl rfl)
theorem dX0_lift_1 : decode cX0_lift 1 = .ok (.iload_n 1, 1) := dk_27 (dk_at dksX0_lift_0 1 rfl rfl)
theorem dX0_lift_2 : decode cX0_lift 2 = .ok (.invokevirtual 208, 3) := dk_182 0 208 (dk_at dksX0_lift_0 2 rfl rfl)
theorem dX0_lift_5 : decode cX0_lift 5 = .ok (.ifCond .eq 13, 3) := dk_153 0 13 (dk_at dksX0_lift_0 5 rfl rfl)
theorem dX0_lift_8 : decode cX0_lift 8 = .ok (.iload_n 2, 1) := dk_28 (dk_at dksX0_lift_0 8 rfl rfl)
theorem dX0_lift_9 : decode cX0_lift 9 = .ok (.iconst 1, 1) := dk_4 (dk_at dksX0_lift_0 9 rfl rfl)
theorem dX0_lift_10 : decode cX0_lift 10 = .ok (.bipush 20, 2) := dk_16 20 (dk_at dksX0_lift_0 10 rfl rfl)
theorem dX0_lift_12 : decode cX0_lift 12 = .ok (.invokestatic 65, 3) := dk_184 0 65 (dk_at dksX0_lift_0 12 rfl rfl)
theorem dX0_lift_15 : decode cX0_lift 15 = .ok (.ifCond .ne 5, 3) := dk_154 0 5 (dk_at dksX0_lift_0 15 rfl rfl)
theorem dX0_lift_18 : decode cX0_lift 18 = .ok (.iconst (-1), 1) := dk_2 (dk_at dksX0_lift_0 18 rfl rfl)
theorem dX0_lift_19 : decode cX0_lift 19 = .ok (.ireturn, 1) := dk_172 (dk_at dksX0_lift_0 19 rfl rfl)
theorem dX0_lift_20 : decode cX0_lift 20 = .ok (.iconst 0, 1) := dk_3 (dk_at dksX0_lift_0 20 rfl rfl)
theorem dX0_lift_21 : decode cX0_lift 21 = .ok (.istore_n 3, 1) := dk_62 (dk_at dksX0_lift_0 21 rfl rfl)
theorem dX0_lift_22 : decode cX0_lift 22 = .ok (.aload_n 0, 1) := dk_42 (dk_at dksX0_lift_0 22 rfl rfl)
theorem dX0_lift_23 : decode cX0_lift 23 = .ok (.getfield 41, 3) := dk_180 0 41 (dk_at dksX0_lift_1 0 rfl rfl)
theorem dX0_lift_26 : decode cX0_lift 26 = .ok (.iconst 2, 1) := dk_5 (dk_at dksX0_lift_1 3 rfl rfl)
theorem dX0_lift_27 : decode cX0_lift 27 = .ok (.iload_n 1, 1) := dk_27 (dk_at dksX0_lift_1 4 rfl rfl)
theorem dX0_lift_28 : decode cX0_lift 28 = .ok (.iadd, 1) := dk_96 (dk_at dksX0_lift_1 5 rfl rfl)
theorem dX0_lift_29 : decode cX0_lift 29 = .ok (.iaload, 1) := dk_46 (dk_at dksX0_lift_1 6 rfl rfl)
theorem dX0_lift_30 : decode cX0_lift 30 = .ok (.iload_n 3, 1) := dk_29 (dk_at dksX0_lift_1 7 rfl rfl)
theorem dX0_lift_31 : decode cX0_lift 31 = .ok (.iadd, 1) := dk_96 (dk_at dksX0_lift_1 8 rfl rfl)
theorem dX0_lift_32 : decode cX0_lift 32 = .ok (.bipush 20, 2) := dk_16 20 (dk_at dksX0_lift_1 9 rfl rfl)
theorem dX0_lift_34 : decode cX0_lift 34 = .ok (.if_icmp .gt 31, 3) := dk_163 0 31 (dk_at dksX0_lift_1 11 rfl rfl)
theorem dX0_lift_37 : decode cX0_lift 37 = .ok (.aload_n 0, 1) := dk_42 (dk_at dksX0_lift_1 14 rfl rfl)
theorem dX0_lift_38 : decode cX0_lift 38 = .ok (.iload_n 1, 1) := dk_27 (dk_at dksX0_lift_1 15 rfl rfl)
theorem dX0_lift_39 : decode cX0_lift 39 = .ok (.aload_n 0, 1) := dk_42 (dk_at dksX0_lift_1 16 rfl rfl)
theorem dX0_lift_40 : decode cX0_lift 40 = .ok (.getfield 41, 3) := dk_180 0 41 (dk_at dksX0_lift_1 17 rfl rfl)
theorem dX0_lift_43 : decode cX0_lift 43 = .ok (.iconst 2, 1) := dk_5 (dk_at dksX0_lift_1 20 rfl rfl)
theorem dX0_lift_44 : decode cX0_lift 44 = .ok (.iload_n 1, 1) := dk_27 (dk_at dksX0_lift_1 21 rfl rfl)
theorem dX0_lift_45 : decode cX0_lift 45 = .ok (.iadd, 1) := dk_96 (dk_at dksX0_lift_1 22 rfl rfl)
theorem dX0_lift_46 : decode cX0_lift 46 = .ok (.iaload, 1) := dk_46 (dk_at dksX0_lift_1 23 rfl rfl)
theorem dX0_lift_47 : decode cX0_lift 47 = .ok (.iload_n 3, 1) := dk_29 (dk_at dksX0_lift_2 0 rfl rfl)
theorem dX0_lift_48 : decode cX0_lift 48 = .ok (.iadd, 1) := dk_96 (dk_at dksX0_lift_2 1 rfl rfl)
theorem dX0_lift_49 : decode cX0_lift 49 = .ok (.iload_n 2, 1) := dk_28 (dk_at dksX0_lift_2 2 rfl rfl)
theorem dX0_lift_50 : decode cX0_lift 50 = .ok (.invokevirtual 246, 3) := dk_182 0 246 (dk_at dksX0_lift_2 3 rfl rfl)
theorem dX0_lift_53 : decode cX0_lift 53 = .ok (.iload_n 1, 1) := dk_27 (dk_at dksX0_lift_2 6 rfl rfl)
theorem dX0_lift_54 : decode cX0_lift 54 = .ok (.if_icmp .ne 5, 3) := dk_160 0 5 (dk_at dksX0_lift_2 7 rfl rfl)
theorem dX0_lift_57 : decode cX0_lift 57 = .ok (.iload_n 3, 1) := dk_29 (dk_at dksX0_lift_2 10 rfl rfl)
theorem dX0_lift_58 : decode cX0_lift 58 = .ok (.ireturn, 1) := dk_172 (dk_at dksX0_lift_2 11 rfl rfl)
theorem dX0_lift_59 : decode cX0_lift 59 = .ok (.iinc 3 1, 3) := dk_132 3 1 (dk_at dksX0_lift_2 12 rfl rfl)
theorem dX0_lift_62 : decode cX0_lift 62 = .ok (.goto (-40), 3) := dk_167 255 216 (dk_at dksX0_lift_2 15 rfl rfl)
theorem dX0_lift_65 : decode cX0_lift 65 = .ok (.bipush (-9), 2) := dk_16 247 (dk_at dksX0_lift_2 18 rfl rfl)
theorem dX0_lift_67 : decode cX0_lift 67 = .ok (.ireturn, 1) := dk_172 (dk_at dksX0_lift_2 20 rfl rfl)
abbrev cX0_hadBy : ByteArray := prog_1_method_57_code
def yX0_hadBy : MethodName := ⟨RX0, "hadBy", "(III)I"⟩
def dkwX0_hadBy_1 : List UInt8 := [21, 5, 29, 162, 0, 16, 42, 4, 182, 0, 232, 54, 4, 132, 5, 1, 167, 255, 240, 21, 4, 172]
abbrev dktX0_hadBy_1 : List UInt8 := dkwX0_hadBy_1 ++ []
def dkwX0_hadBy_0 : List UInt8 := [42, 3, 4, 182, 0, 242, 42, 180, 0, 41, 16, 22, 27, 96, 28, 79, 16, 247, 54, 4, 3, 54, 5]
abbrev dktX0_hadBy_0 : List UInt8 := dkwX0_hadBy_0 ++ dktX0_hadBy_1
theorem dksX0_hadBy_0 : cX0_hadBy.data.toList.drop 0 = dktX0_hadBy_0 := by decide +kernel
theorem dksX0_hadBy_1 : cX0_hadBy.data.toList.drop 23 = dktX0_hadBy_1 := dk_seg dksX0_hadBy_0 23 rfl rfl
theorem dX0_hadBy_0 : decode cX0_hadBy 0 = .ok (.aload_n 0, 1) := dk_42 (dk_at dksX0_hadBy_0 0 rfl rfl)
theorem dX0_hadBy_1 : decode cX0_hadBy 1 = .ok (.iconst 0, 1) := dk_3 (dk_at dksX0_hadBy_0 1 rfl rfl)
theorem dX0_hadBy_2 : decode cX0_hadBy 2 = .ok (.iconst 1, 1) := dk_4 (dk_at dksX0_hadBy_0 2 rfl rfl)
theorem dX0_hadBy_3 : decode cX0_hadBy 3 = .ok (.invokevirtual 242, 3) := dk_182 0 242 (dk_at dksX0_hadBy_0 3 rfl rfl)
theorem dX0_hadBy_6 : decode cX0_hadBy 6 = .ok (.aload_n 0, 1) := dk_42 (dk_at dksX0_hadBy_0 6 rfl rfl)
theorem dX0_hadBy_7 : decode cX0_hadBy 7 = .ok (.getfield 41, 3) := dk_180 0 41 (dk_at dksX0_hadBy_0 7 rfl rfl)
theorem dX0_hadBy_10 : decode cX0_hadBy 10 = .ok (.bipush 22, 2) := dk_16 22 (dk_at dksX0_hadBy_0 10 rfl rfl)
theorem dX0_hadBy_12 : decode cX0_hadBy 12 = .ok (.iload_n 1, 1) := dk_27 (dk_at dksX0_hadBy_0 12 rfl rfl)
theorem dX0_hadBy_13 : decode cX0_hadBy 13 = .ok (.iadd, 1) := dk_96 (dk_at dksX0_hadBy_0 13 rfl rfl)
theorem dX0_hadBy_14 : decode cX0_hadBy 14 = .ok (.iload_n 2, 1) := dk_28 (dk_at dksX0_hadBy_0 14 rfl rfl)
theorem dX0_hadBy_15 : decode cX0_hadBy 15 = .ok (.iastore, 1) := dk_79 (dk_at dksX0_hadBy_0 15 rfl rfl)
theorem dX0_hadBy_16 : decode cX0_hadBy 16 = .ok (.bipush (-9), 2) := dk_16 247 (dk_at dksX0_hadBy_0 16 rfl rfl)
theorem dX0_hadBy_18 : decode cX0_hadBy 18 = .ok (.istore 4, 2) := dk_54 4 (dk_at dksX0_hadBy_0 18 rfl rfl)
theorem dX0_hadBy_20 : decode cX0_hadBy 20 = .ok (.iconst 0, 1) := dk_3 (dk_at dksX0_hadBy_0 20 rfl rfl)
theorem dX0_hadBy_21 : decode cX0_hadBy 21 = .ok (.istore 5, 2) := dk_54 5 (dk_at dksX0_hadBy_0 21 rfl rfl)
theorem dX0_hadBy_23 : decode cX0_hadBy 23 = .ok (.iload 5, 2) := dk_21 5 (dk_at dksX0_hadBy_1 0 rfl rfl)
theorem dX0_hadBy_25 : decode cX0_hadBy 25 = .ok (.iload_n 3, 1) := dk_29 (dk_at dksX0_hadBy_1 2 rfl rfl)
theorem dX0_hadBy_26 : decode cX0_hadBy 26 = .ok (.if_icmp .ge 16, 3) := dk_162 0 16 (dk_at dksX0_hadBy_1 3 rfl rfl)
theorem dX0_hadBy_29 : decode cX0_hadBy 29 = .ok (.aload_n 0, 1) := dk_42 (dk_at dksX0_hadBy_1 6 rfl rfl)
theorem dX0_hadBy_30 : decode cX0_hadBy 30 = .ok (.iconst 1, 1) := dk_4 (dk_at dksX0_hadBy_1 7 rfl rfl)
theorem dX0_hadBy_31 : decode cX0_hadBy 31 = .ok (.invokevirtual 232, 3) := dk_182 0 232 (dk_at dksX0_hadBy_1 8 rfl rfl)
theorem dX0_hadBy_34 : decode cX0_hadBy 34 = .ok (.istore 4, 2) := dk_54 4 (dk_at dksX0_hadBy_1 11 rfl rfl)
theorem dX0_hadBy_36 : decode cX0_hadBy 36 = .ok (.iinc 5 1, 3) := dk_132 5 1 (dk_at dksX0_hadBy_1 13 rfl rfl)
theorem dX0_hadBy_39 : decode cX0_hadBy 39 = .ok (.goto (-16), 3) := dk_167 255 240 (dk_at dksX0_hadBy_1 16 rfl rfl)
theorem dX0_hadBy_42 : decode cX0_hadBy 42 = .ok (.iload 4, 2) := dk_21 4 (dk_at dksX0_hadBy_1 19 rfl rfl)
theorem dX0_hadBy_44 : decode cX0_hadBy 44 = .ok (.ireturn, 1) := dk_172 (dk_at dksX0_hadBy_1 21 rfl rfl)
abbrev cX0_cheap : ByteArray := prog_1_method_62_code
def yX0_cheap : MethodName := ⟨RX0, "cheap", "(II)I"⟩
def dkwX0_cheap_4 : List UInt8 := [42, 180, 0, 116, 182, 1, 0, 29, 172]
abbrev dktX0_cheap_4 : List UInt8 := dkwX0_cheap_4 ++ []
def dkwX0_cheap_3 : List UInt8 := [184, 0, 87, 132, 4, 1, 167, 255, 202, 29, 18, 249, 160, 0, 6, 16, 247, 172, 42, 28, 42, 180, 0, 56]
abbrev dktX0_cheap_3 : List UInt8 := dkwX0_cheap_3 ++ dktX0_cheap_4
def dkwX0_cheap_2 : List UInt8 := [21, 5, 29, 162, 0, 23, 21, 5, 62, 42, 180, 0, 53, 3, 42, 180, 0, 56, 3, 42, 180, 0, 116]
abbrev dktX0_cheap_2 : List UInt8 := dkwX0_cheap_2 ++ dktX0_cheap_3
def dkwX0_cheap_1 : List UInt8 := [180, 0, 41, 5, 27, 96, 46, 21, 4, 96, 16, 20, 163, 0, 44, 42, 27, 21, 4, 182, 0, 253, 54, 5]
abbrev dktX0_cheap_1 : List UInt8 := dkwX0_cheap_1 ++ dktX0_cheap_2
def dkwX0_cheap_0 : List UInt8 := [42, 27, 182, 0, 208, 153, 0, 10, 28, 184, 0, 69, 154, 0, 5, 2, 172, 18, 249, 62, 3, 54, 4, 42]
abbrev dktX0_cheap_0 : List UInt8 := dkwX0_cheap_0 ++ dktX0_cheap_1
theorem dksX0_cheap_0 : cX0_cheap.data.toList.drop 0 = dktX0_cheap_0 := by decide +kernel
theorem dksX0_cheap_1 : cX0_cheap.data.toList.drop 24 = dktX0_cheap_1 := dk_seg dksX0_cheap_0 24 rfl rfl
theorem dksX0_cheap_2 : cX0_cheap.data.toList.drop 48 = dktX0_cheap_2 := dk_seg dksX0_cheap_1 24 rfl rfl
theorem dksX0_cheap_3 : cX0_cheap.data.toList.drop 71 = dktX0_cheap_3 := dk_seg dksX0_cheap_2 23 rfl rfl
theorem dksX0_cheap_4 : cX0_cheap.data.toList.drop 95 = dktX0_cheap_4 := dk_seg dksX0_cheap_3 24 rfl rfl
theorem dX0_cheap_0 : decode cX0_cheap 0 = .ok (.aload_n 0, 1) := dk_42 (dk_at dksX0_cheap_0 0 rfl rfl)
theorem dX0_cheap_1 : decode cX0_cheap 1 = .ok (.iload_n 1, 1) := dk_27 (dk_at dksX0_cheap_0 1 rfl rfl)
theorem dX0_cheap_2 : decode cX0_cheap 2 = .ok (.invokevirtual 208, 3) := dk_182 0 208 (dk_at dksX0_cheap_0 2 rfl rfl)
theorem dX0_cheap_5 : decode cX0_cheap 5 = .ok (.ifCond .eq 10, 3) := dk_153 0 10 (dk_at dksX0_cheap_0 5 rfl rfl)
theorem dX0_cheap_8 : decode cX0_cheap 8 = .ok (.iload_n 2, 1) := dk_28 (dk_at dksX0_cheap_0 8 rfl rfl)
theorem dX0_cheap_9 : decode cX0_cheap 9 = .ok (.invokestatic 69, 3) := dk_184 0 69 (dk_at dksX0_cheap_0 9 rfl rfl)
theorem dX0_cheap_12 : decode cX0_cheap 12 = .ok (.ifCond .ne 5, 3) := dk_154 0 5 (dk_at dksX0_cheap_0 12 rfl rfl)
theorem dX0_cheap_15 : decode cX0_cheap 15 = .ok (.iconst (-1), 1) := dk_2 (dk_at dksX0_cheap_0 15 rfl rfl)
theorem dX0_cheap_16 : decode cX0_cheap 16 = .ok (.ireturn, 1) := dk_172 (dk_at dksX0_cheap_0 16 rfl rfl)
theorem dX0_cheap_17 : decode cX0_cheap 17 = .ok (.ldc 249, 2) := dk_18 249 (dk_at dksX0_cheap_0 17 rfl rfl)
theorem dX0_cheap_19 : decode cX0_cheap 19 = .ok (.istore_n 3, 1) := dk_62 (dk_at dksX0_cheap_0 19 rfl rfl)
theorem dX0_cheap_20 : decode cX0_cheap 20 = .ok (.iconst 0, 1) := dk_3 (dk_at dksX0_cheap_0 20 rfl rfl)
theorem dX0_cheap_21 : decode cX0_cheap 21 = .ok (.istore 4, 2) := dk_54 4 (dk_at dksX0_cheap_0 21 rfl rfl)
theorem dX0_cheap_23 : decode cX0_cheap 23 = .ok (.aload_n 0, 1) := dk_42 (dk_at dksX0_cheap_0 23 rfl rfl)
theorem dX0_cheap_24 : decode cX0_cheap 24 = .ok (.getfield 41, 3) := dk_180 0 41 (dk_at dksX0_cheap_1 0 rfl rfl)
theorem dX0_cheap_27 : decode cX0_cheap 27 = .ok (.iconst 2, 1) := dk_5 (dk_at dksX0_cheap_1 3 rfl rfl)
theorem dX0_cheap_28 : decode cX0_cheap 28 = .ok (.iload_n 1, 1) := dk_27 (dk_at dksX0_cheap_1 4 rfl rfl)
theorem dX0_cheap_29 : decode cX0_cheap 29 = .ok (.iadd, 1) := dk_96 (dk_at dksX0_cheap_1 5 rfl rfl)
theorem dX0_cheap_30 : decode cX0_cheap 30 = .ok (.iaload, 1) := dk_46 (dk_at dksX0_cheap_1 6 rfl rfl)
theorem dX0_cheap_31 : decode cX0_cheap 31 = .ok (.iload 4, 2) := dk_21 4 (dk_at dksX0_cheap_1 7 rfl rfl)
theorem dX0_cheap_33 : decode cX0_cheap 33 = .ok (.iadd, 1) := dk_96 (dk_at dksX0_cheap_1 9 rfl rfl)
theorem dX0_cheap_34 : decode cX0_cheap 34 = .ok (.bipush 20, 2) := dk_16 20 (dk_at dksX0_cheap_1 10 rfl rfl)
theorem dX0_cheap_36 : decode cX0_cheap 36 = .ok (.if_icmp .gt 44, 3) := dk_163 0 44 (dk_at dksX0_cheap_1 12 rfl rfl)
theorem dX0_cheap_39 : decode cX0_cheap 39 = .ok (.aload_n 0, 1) := dk_42 (dk_at dksX0_cheap_1 15 rfl rfl)
theorem dX0_cheap_40 : decode cX0_cheap 40 = .ok (.iload_n 1, 1) := dk_27 (dk_at dksX0_cheap_1 16 rfl rfl)
theorem dX0_cheap_41 : decode cX0_cheap 41 = .ok (.iload 4, 2) := dk_21 4 (dk_at dksX0_cheap_1 17 rfl rfl)
theorem dX0_cheap_43 : decode cX0_cheap 43 = .ok (.invokevirtual 253, 3) := dk_182 0 253 (dk_at dksX0_cheap_1 19 rfl rfl)
theorem dX0_cheap_46 : decode cX0_cheap 46 = .ok (.istore 5, 2) := dk_54 5 (dk_at dksX0_cheap_1 22 rfl rfl)
theorem dX0_cheap_48 : decode cX0_cheap 48 = .ok (.iload 5, 2) := dk_21 5 (dk_at dksX0_cheap_2 0 rfl rfl)
theorem dX0_cheap_50 : decode cX0_cheap 50 = .ok (.iload_n 3, 1) := dk_29 (dk_at dksX0_cheap_2 2 rfl rfl)
theorem dX0_cheap_51 : decode cX0_cheap 51 = .ok (.if_icmp .ge 23, 3) := dk_162 0 23 (dk_at dksX0_cheap_2 3 rfl rfl)
theorem dX0_cheap_54 : decode cX0_cheap 54 = .ok (.iload 5, 2) := dk_21 5 (dk_at dksX0_cheap_2 6 rfl rfl)
theorem dX0_cheap_56 : decode cX0_cheap 56 = .ok (.istore_n 3, 1) := dk_62 (dk_at dksX0_cheap_2 8 rfl rfl)
theorem dX0_cheap_57 : decode cX0_cheap 57 = .ok (.aload_n 0, 1) := dk_42 (dk_at dksX0_cheap_2 9 rfl rfl)
theorem dX0_cheap_58 : decode cX0_cheap 58 = .ok (.getfield 53, 3) := dk_180 0 53 (dk_at dksX0_cheap_2 10 rfl rfl)
theorem dX0_cheap_61 : decode cX0_cheap 61 = .ok (.iconst 0, 1) := dk_3 (dk_at dksX0_cheap_2 13 rfl rfl)
theorem dX0_cheap_62 : decode cX0_cheap 62 = .ok (.aload_n 0, 1) := dk_42 (dk_at dksX0_cheap_2 14 rfl rfl)
theorem dX0_cheap_63 : decode cX0_cheap 63 = .ok (.getfield 56, 3) := dk_180 0 56 (dk_at dksX0_cheap_2 15 rfl rfl)
theorem dX0_cheap_66 : decode cX0_cheap 66 = .ok (.iconst 0, 1) := dk_3 (dk_at dksX0_cheap_2 18 rfl rfl)
theorem dX0_cheap_67 : decode cX0_cheap 67 = .ok (.aload_n 0, 1) := dk_42 (dk_at dksX0_cheap_2 19 rfl rfl)
theorem dX0_cheap_68 : decode cX0_cheap 68 = .ok (.getfield 116, 3) := dk_180 0 116 (dk_at dksX0_cheap_2 20 rfl rfl)
theorem dX0_cheap_71 : decode cX0_cheap 71 = .ok (.invokestatic 87, 3) := dk_184 0 87 (dk_at dksX0_cheap_3 0 rfl rfl)
theorem dX0_cheap_74 : decode cX0_cheap 74 = .ok (.iinc 4 1, 3) := dk_132 4 1 (dk_at dksX0_cheap_3 3 rfl rfl)
theorem dX0_cheap_77 : decode cX0_cheap 77 = .ok (.goto (-54), 3) := dk_167 255 202 (dk_at dksX0_cheap_3 6 rfl rfl)
theorem dX0_cheap_80 : decode cX0_cheap 80 = .ok (.iload_n 3, 1) := dk_29 (dk_at dksX0_cheap_3 9 rfl rfl)
theorem dX0_cheap_81 : decode cX0_cheap 81 = .ok (.ldc 249, 2) := dk_18 249 (dk_at dksX0_cheap_3 10 rfl rfl)
theorem dX0_cheap_83 : decode cX0_cheap 83 = .ok (.if_icmp .ne 6, 3) := dk_160 0 6 (dk_at dksX0_cheap_3 12 rfl rfl)
theorem dX0_cheap_86 : decode cX0_cheap 86 = .ok (.bipush (-9), 2) := dk_16 247 (dk_at dksX0_cheap_3 15 rfl rfl)
theorem dX0_cheap_88 : decode cX0_cheap 88 = .ok (.ireturn, 1) := dk_172 (dk_at dksX0_cheap_3 17 rfl rfl)
theorem dX0_cheap_89 : decode cX0_cheap 89 = .ok (.aload_n 0, 1) := dk_42 (dk_at dksX0_cheap_3 18 rfl rfl)
theorem dX0_cheap_90 : decode cX0_cheap 90 = .ok (.iload_n 2, 1) := dk_28 (dk_at dksX0_cheap_3 19 rfl rfl)
theorem dX0_cheap_91 : decode cX0_cheap 91 = .ok (.aload_n 0, 1) := dk_42 (dk_at dksX0_cheap_3 20 rfl rfl)
theorem dX0_cheap_92 : decode cX0_cheap 92 = .ok (.getfield 56, 3) := dk_180 0 56 (dk_at dksX0_cheap_3 21 rfl rfl)
theorem dX0_cheap_95 : decode cX0_cheap 95 = .ok (.aload_n 0, 1) := dk_42 (dk_at dksX0_cheap_4 0 rfl rfl)
theorem dX0_cheap_96 : decode cX0_cheap 96 = .ok (.getfield 116, 3) := dk_180 0 116 (dk_at dksX0_cheap_4 1 rfl rfl)
theorem dX0_cheap_99 : decode cX0_cheap 99 = .ok (.invokevirtual 256, 3) := dk_182 1 0 (dk_at dksX0_cheap_4 4 rfl rfl)
theorem dX0_cheap_102 : decode cX0_cheap 102 = .ok (.iload_n 3, 1) := dk_29 (dk_at dksX0_cheap_4 7 rfl rfl)
theorem dX0_cheap_103 : decode cX0_cheap 103 = .ok (.ireturn, 1) := dk_172 (dk_at dksX0_cheap_4 8 rfl rfl)
abbrev cX0_changed : ByteArray := prog_1_method_60_code
def yX0_changed : MethodName := ⟨RX0, "changed", "(II)I"⟩
def dkwX0_changed_5 : List UInt8 := [167, 255, 186, 21, 4, 172]
abbrev dktX0_changed_5 : List UInt8 := dkwX0_changed_5 ++ []
def dkwX0_changed_4 : List UInt8 := [167, 0, 17, 21, 6, 16, 247, 160, 0, 8, 18, 249, 167, 0, 5, 21, 6, 96, 54, 4, 132, 5, 1]
abbrev dktX0_changed_4 : List UInt8 := dkwX0_changed_4 ++ dktX0_changed_5
def dkwX0_changed_3 : List UInt8 := [182, 0, 250, 54, 6, 42, 180, 0, 53, 21, 5, 21, 6, 79, 21, 4, 21, 5, 27, 160, 0, 7, 3]
abbrev dktX0_changed_3 : List UInt8 := dkwX0_changed_3 ++ dktX0_changed_4
def dkwX0_changed_2 : List UInt8 := [21, 5, 42, 180, 0, 116, 162, 0, 67, 21, 5, 27, 160, 0, 7, 28, 167, 0, 11, 42, 21, 5, 27, 29]
abbrev dktX0_changed_2 : List UInt8 := dkwX0_changed_2 ++ dktX0_changed_3
def dkwX0_changed_1 : List UInt8 := [27, 182, 0, 134, 184, 0, 137, 62, 29, 158, 0, 7, 28, 167, 0, 5, 18, 249, 54, 4, 3, 54, 5]
abbrev dktX0_changed_1 : List UInt8 := dkwX0_changed_1 ++ dktX0_changed_2
def dkwX0_changed_0 : List UInt8 := [42, 180, 0, 37, 27, 50, 42, 180, 0, 41, 5, 27, 96, 46, 28, 96, 42, 180, 0, 41, 3, 46, 42, 3]
abbrev dktX0_changed_0 : List UInt8 := dkwX0_changed_0 ++ dktX0_changed_1
theorem dksX0_changed_0 : cX0_changed.data.toList.drop 0 = dktX0_changed_0 := by decide +kernel
theorem dksX0_changed_1 : cX0_changed.data.toList.drop 24 = dktX0_changed_1 := dk_seg dksX0_changed_0 24 rfl rfl
theorem dksX0_changed_2 : cX0_changed.data.toList.drop 47 = dktX0_changed_2 := dk_seg dksX0_changed_1 23 rfl rfl
theorem dksX0_changed_3 : cX0_changed.data.toList.drop 71 = dktX0_changed_3 := dk_seg dksX0_changed_2 24 rfl rfl
theorem dksX0_changed_4 : cX0_changed.data.toList.drop 94 = dktX0_changed_4 := dk_seg dksX0_changed_3 23 rfl rfl
theorem dksX0_changed_5 : cX0_changed.data.toList.drop 117 = dktX0_changed_5 := dk_seg dksX0_changed_4 23 rfl rfl
theorem dX0_changed_0 : decode cX0_changed 0 = .ok (.aload_n 0, 1) := dk_42 (dk_at dksX0_changed_0 0 rfl rfl)
theorem dX0_changed_1 : decode cX0_changed 1 = .ok (.getfield 37, 3) := dk_180 0 37 (dk_at dksX0_changed_0 1 rfl rfl)
theorem dX0_changed_4 : decode cX0_changed 4 = .ok (.iload_n 1, 1) := dk_27 (dk_at dksX0_changed_0 4 rfl rfl)
theorem dX0_changed_5 : decode cX0_changed 5 = .ok (.aaload, 1) := dk_50 (dk_at dksX0_changed_0 5 rfl rfl)
theorem dX0_changed_6 : decode cX0_changed 6 = .ok (.aload_n 0, 1) := dk_42 (dk_at dksX0_changed_0 6 rfl rfl)
theorem dX0_changed_7 : decode cX0_changed 7 = .ok (.getfield 41, 3) := dk_180 0 41 (dk_at dksX0_changed_0 7 rfl rfl)
theorem dX0_changed_10 : decode cX0_changed 10 = .ok (.iconst 2, 1) := dk_5 (dk_at dksX0_changed_0 10 rfl rfl)
theorem dX0_changed_11 : decode cX0_changed 11 = .ok (.iload_n 1, 1) := dk_27 (dk_at dksX0_changed_0 11 rfl rfl)
theorem dX0_changed_12 : decode cX0_changed 12 = .ok (.iadd, 1) := dk_96 (dk_at dksX0_changed_0 12 rfl rfl)
theorem dX0_changed_13 : decode cX0_changed 13 = .ok (.iaload, 1) := dk_46 (dk_at dksX0_changed_0 13 rfl rfl)
theorem dX0_changed_14 : decode cX0_changed 14 = .ok (.iload_n 2, 1) := dk_28 (dk_at dksX0_changed_0 14 rfl rfl)
theorem dX0_changed_15 : decode cX0_changed 15 = .ok (.iadd, 1) := dk_96 (dk_at dksX0_changed_0 15 rfl rfl)
theorem dX0_changed_16 : decode cX0_changed 16 = .ok (.aload_n 0, 1) := dk_42 (dk_at dksX0_changed_0 16 rfl rfl)
theorem dX0_changed_17 : decode cX0_changed 17 = .ok (.getfield 41, 3) := dk_180 0 41 (dk_at dksX0_changed_0 17 rfl rfl)
theorem dX0_changed_20 : decode cX0_changed 20 = .ok (.iconst 0, 1) := dk_3 (dk_at dksX0_changed_0 20 rfl rfl)
theorem dX0_changed_21 : decode cX0_changed 21 = .ok (.iaload, 1) := dk_46 (dk_at dksX0_changed_0 21 rfl rfl)
theorem dX0_changed_22 : decode cX0_changed 22 = .ok (.aload_n 0, 1) := dk_42 (dk_at dksX0_changed_0 22 rfl rfl)
theorem dX0_changed_23 : decode cX0_changed 23 = .ok (.iconst 0, 1) := dk_3 (dk_at dksX0_changed_0 23 rfl rfl)
theorem dX0_changed_24 : decode cX0_changed 24 = .ok (.iload_n 1, 1) := dk_27 (dk_at dksX0_changed_1 0 rfl rfl)
theorem dX0_changed_25 : decode cX0_changed 25 = .ok (.invokevirtual 134, 3) := dk_182 0 134 (dk_at dksX0_changed_1 1 rfl rfl)
theorem dX0_changed_28 : decode cX0_changed 28 = .ok (.invokestatic 137, 3) := dk_184 0 137 (dk_at dksX0_changed_1 4 rfl rfl)
theorem dX0_changed_31 : decode cX0_changed 31 = .ok (.istore_n 3, 1) := dk_62 (dk_at dksX0_changed_1 7 rfl rfl)
theorem dX0_changed_32 : decode cX0_changed 32 = .ok (.iload_n 3, 1) := dk_29 (dk_at dksX0_changed_1 8 rfl rfl)
theorem dX0_changed_33 : decode cX0_changed 33 = .ok (.ifCond .le 7, 3) := dk_158 0 7 (dk_at dksX0_changed_1 9 rfl rfl)
theorem dX0_changed_36 : decode cX0_changed 36 = .ok (.iload_n 2, 1) := dk_28 (dk_at dksX0_changed_1 12 rfl rfl)
theorem dX0_changed_37 : decode cX0_changed 37 = .ok (.goto 5, 3) := dk_167 0 5 (dk_at dksX0_changed_1 13 rfl rfl)
theorem dX0_changed_40 : decode cX0_changed 40 = .ok (.ldc 249, 2) := dk_18 249 (dk_at dksX0_changed_1 16 rfl rfl)
theorem dX0_changed_42 : decode cX0_changed 42 = .ok (.istore 4, 2) := dk_54 4 (dk_at dksX0_changed_1 18 rfl rfl)
theorem dX0_changed_44 : decode cX0_changed 44 = .ok (.iconst 0, 1) := dk_3 (dk_at dksX0_changed_1 20 rfl rfl)
theorem dX0_changed_45 : decode cX0_changed 45 = .ok (.istore 5, 2) := dk_54 5 (dk_at dksX0_changed_1 21 rfl rfl)
theorem dX0_changed_47 : decode cX0_changed 47 = .ok (.iload 5, 2) := dk_21 5 (dk_at dksX0_changed_2 0 rfl rfl)
theorem dX0_changed_49 : decode cX0_changed 49 = .ok (.aload_n 0, 1) := dk_42 (dk_at dksX0_changed_2 2 rfl rfl)
theorem dX0_changed_50 : decode cX0_changed 50 = .ok (.getfield 116, 3) := dk_180 0 116 (dk_at dksX0_changed_2 3 rfl rfl)
theorem dX0_changed_53 : decode cX0_changed 53 = .ok (.if_icmp .ge 67, 3) := dk_162 0 67 (dk_at dksX0_changed_2 6 rfl rfl)
theorem dX0_changed_56 : decode cX0_changed 56 = .ok (.iload 5, 2) := dk_21 5 (dk_at dksX0_changed_2 9 rfl rfl)
theorem dX0_changed_58 : decode cX0_changed 58 = .ok (.iload_n 1, 1) := dk_27 (dk_at dksX0_changed_2 11 rfl rfl)
theorem dX0_changed_59 : decode cX0_changed 59 = .ok (.if_icmp .ne 7, 3) := dk_160 0 7 (dk_at dksX0_changed_2 12 rfl rfl)
theorem dX0_changed_62 : decode cX0_changed 62 = .ok (.iload_n 2, 1) := dk_28 (dk_at dksX0_changed_2 15 rfl rfl)
theorem dX0_changed_63 : decode cX0_changed 63 = .ok (.goto 11, 3) := dk_167 0 11 (dk_at dksX0_changed_2 16 rfl rfl)
theorem dX0_changed_66 : decode cX0_changed 66 = .ok (.aload_n 0, 1) := dk_42 (dk_at dksX0_changed_2 19 rfl rfl)
theorem dX0_changed_67 : decode cX0_changed 67 = .ok (.iload 5, 2) := dk_21 5 (dk_at dksX0_changed_2 20 rfl rfl)
theorem dX0_changed_69 : decode cX0_changed 69 = .ok (.iload_n 1, 1) := dk_27 (dk_at dksX0_changed_2 22 rfl rfl)
theorem dX0_changed_70 : decode cX0_changed 70 = .ok (.iload_n 3, 1) := dk_29 (dk_at dksX0_changed_2 23 rfl rfl)
theorem dX0_changed_71 : decode cX0_changed 71 = .ok (.invokevirtual 250, 3) := dk_182 0 250 (dk_at dksX0_changed_3 0 rfl rfl)
theorem dX0_changed_74 : decode cX0_changed 74 = .ok (.istore 6, 2) := dk_54 6 (dk_at dksX0_changed_3 3 rfl rfl)
theorem dX0_changed_76 : decode cX0_changed 76 = .ok (.aload_n 0, 1) := dk_42 (dk_at dksX0_changed_3 5 rfl rfl)
theorem dX0_changed_77 : decode cX0_changed 77 = .ok (.getfield 53, 3) := dk_180 0 53 (dk_at dksX0_changed_3 6 rfl rfl)
theorem dX0_changed_80 : decode cX0_changed 80 = .ok (.iload 5, 2) := dk_21 5 (dk_at dksX0_changed_3 9 rfl rfl)
theorem dX0_changed_82 : decode cX0_changed 82 = .ok (.iload 6, 2) := dk_21 6 (dk_at dksX0_changed_3 11 rfl rfl)
theorem dX0_changed_84 : decode cX0_changed 84 = .ok (.iastore, 1) := dk_79 (dk_at dksX0_changed_3 13 rfl rfl)
theorem dX0_changed_85 : decode cX0_changed 85 = .ok (.iload 4, 2) := dk_21 4 (dk_at dksX0_changed_3 14 rfl rfl)
theorem dX0_changed_87 : decode cX0_changed 87 = .ok (.iload 5, 2) := dk_21 5 (dk_at dksX0_changed_3 16 rfl rfl)
theorem dX0_changed_89 : decode cX0_changed 89 = .ok (.iload_n 1, 1) := dk_27 (dk_at dksX0_changed_3 18 rfl rfl)
theorem dX0_changed_90 : decode cX0_changed 90 = .ok (.if_icmp .ne 7, 3) := dk_160 0 7 (dk_at dksX0_changed_3 19 rfl rfl)
theorem dX0_changed_93 : decode cX0_changed 93 = .ok (.iconst 0, 1) := dk_3 (dk_at dksX0_changed_3 22 rfl rfl)
theorem dX0_changed_94 : decode cX0_changed 94 = .ok (.goto 17, 3) := dk_167 0 17 (dk_at dksX0_changed_4 0 rfl rfl)
theorem dX0_changed_97 : decode cX0_changed 97 = .ok (.iload 6, 2) := dk_21 6 (dk_at dksX0_changed_4 3 rfl rfl)
theorem dX0_changed_99 : decode cX0_changed 99 = .ok (.bipush (-9), 2) := dk_16 247 (dk_at dksX0_changed_4 5 rfl rfl)
theorem dX0_changed_101 : decode cX0_changed 101 = .ok (.if_icmp .ne 8, 3) := dk_160 0 8 (dk_at dksX0_changed_4 7 rfl rfl)
theorem dX0_changed_104 : decode cX0_changed 104 = .ok (.ldc 249, 2) := dk_18 249 (dk_at dksX0_changed_4 10 rfl rfl)
theorem dX0_changed_106 : decode cX0_changed 106 = .ok (.goto 5, 3) := dk_167 0 5 (dk_at dksX0_changed_4 12 rfl rfl)
theorem dX0_changed_109 : decode cX0_changed 109 = .ok (.iload 6, 2) := dk_21 6 (dk_at dksX0_changed_4 15 rfl rfl)
theorem dX0_changed_111 : decode cX0_changed 111 = .ok (.iadd, 1) := dk_96 (dk_at dksX0_changed_4 17 rfl rfl)
theorem dX0_changed_112 : decode cX0_changed 112 = .ok (.istore 4, 2) := dk_54 4 (dk_at dksX0_changed_4 18 rfl rfl)
theorem dX0_changed_114 : decode cX0_changed 114 = .ok (.iinc 5 1, 3) := dk_132 5 1 (dk_at dksX0_changed_4 20 rfl rfl)
theorem dX0_changed_117 : decode cX0_changed 117 = .ok (.goto (-70), 3) := dk_167 255 186 (dk_at dksX0_changed_5 0 rfl rfl)
theorem dX0_changed_120 : decode cX0_changed 120 = .ok (.iload 4, 2) := dk_21 4 (dk_at dksX0_changed_5 3 rfl rfl)
theorem dX0_changed_122 : decode cX0_changed 122 = .ok (.ireturn, 1) := dk_172 (dk_at dksX0_changed_5 5 rfl rfl)
abbrev cX0_shamed : ByteArray := prog_1_method_59_code
def yX0_shamed : MethodName := ⟨RX0, "shamed", "(III)I"⟩
def dkwX0_shamed_3 : List UInt8 := [167, 255, 190, 16, 247, 172]
abbrev dktX0_shamed_3 : List UInt8 := dkwX0_shamed_3 ++ []
def dkwX0_shamed_2 : List UInt8 := [184, 0, 137, 54, 5, 42, 3, 28, 29, 27, 21, 5, 182, 0, 148, 153, 0, 6, 21, 4, 172, 132, 4, 1]
abbrev dktX0_shamed_2 : List UInt8 := dkwX0_shamed_2 ++ dktX0_shamed_3
def dkwX0_shamed_1 : List UInt8 := [180, 0, 41, 5, 27, 96, 46, 21, 4, 100, 42, 180, 0, 41, 3, 46, 42, 3, 27, 182, 0, 134]
abbrev dktX0_shamed_1 : List UInt8 := dkwX0_shamed_1 ++ dktX0_shamed_2
def dkwX0_shamed_0 : List UInt8 := [3, 54, 4, 21, 4, 42, 180, 0, 41, 5, 27, 96, 46, 163, 0, 59, 42, 180, 0, 37, 27, 50, 42]
abbrev dktX0_shamed_0 : List UInt8 := dkwX0_shamed_0 ++ dktX0_shamed_1
theorem dksX0_shamed_0 : cX0_shamed.data.toList.drop 0 = dktX0_shamed_0 := by decide +kernel
theorem dksX0_shamed_1 : cX0_shamed.data.toList.drop 23 = dktX0_shamed_1 := dk_seg dksX0_shamed_0 23 rfl rfl
theorem dksX0_shamed_2 : cX0_shamed.data.toList.drop 45 = dktX0_shamed_2 := dk_seg dksX0_shamed_1 22 rfl rfl
theorem dksX0_shamed_3 : cX0_shamed.data.toList.drop 69 = dktX0_shamed_3 := dk_seg dksX0_shamed_2 24 rfl rfl
theorem dX0_shamed_0 : decode cX0_shamed 0 = .ok (.iconst 0, 1) := dk_3 (dk_at dksX0_shamed_0 0 rfl rfl)
theorem dX0_shamed_1 : decode cX0_shamed 1 = .ok (.istore 4, 2) := dk_54 4 (dk_at dksX0_shamed_0 1 rfl rfl)
theorem dX0_shamed_3 : decode cX0_shamed 3 = .ok (.iload 4, 2) := dk_21 4 (dk_at dksX0_shamed_0 3 rfl rfl)
theorem dX0_shamed_5 : decode cX0_shamed 5 = .ok (.aload_n 0, 1) := dk_42 (dk_at dksX0_shamed_0 5 rfl rfl)
theorem dX0_shamed_6 : decode cX0_shamed 6 = .ok (.getfield 41, 3) := dk_180 0 41 (dk_at dksX0_shamed_0 6 rfl rfl)
theorem dX0_shamed_9 : decode cX0_shamed 9 = .ok (.iconst 2, 1) := dk_5 (dk_at dksX0_shamed_0 9 rfl rfl)
theorem dX0_shamed_10 : decode cX0_shamed 10 = .ok (.iload_n 1, 1) := dk_27 (dk_at dksX0_shamed_0 10 rfl rfl)
theorem dX0_shamed_11 : decode cX0_shamed 11 = .ok (.iadd, 1) := dk_96 (dk_at dksX0_shamed_0 11 rfl rfl)
theorem dX0_shamed_12 : decode cX0_shamed 12 = .ok (.iaload, 1) := dk_46 (dk_at dksX0_shamed_0 12 rfl rfl)
theorem dX0_shamed_13 : decode cX0_shamed 13 = .ok (.if_icmp .gt 59, 3) := dk_163 0 59 (dk_at dksX0_shamed_0 13 rfl rfl)
theorem dX0_shamed_16 : decode cX0_shamed 16 = .ok (.aload_n 0, 1) := dk_42 (dk_at dksX0_shamed_0 16 rfl rfl)
theorem dX0_shamed_17 : decode cX0_shamed 17 = .ok (.getfield 37, 3) := dk_180 0 37 (dk_at dksX0_shamed_0 17 rfl rfl)
theorem dX0_shamed_20 : decode cX0_shamed 20 = .ok (.iload_n 1, 1) := dk_27 (dk_at dksX0_shamed_0 20 rfl rfl)
theorem dX0_shamed_21 : decode cX0_shamed 21 = .ok (.aaload, 1) := dk_50 (dk_at dksX0_shamed_0 21 rfl rfl)
theorem dX0_shamed_22 : decode cX0_shamed 22 = .ok (.aload_n 0, 1) := dk_42 (dk_at dksX0_shamed_0 22 rfl rfl)
theorem dX0_shamed_23 : decode cX0_shamed 23 = .ok (.getfield 41, 3) := dk_180 0 41 (dk_at dksX0_shamed_1 0 rfl rfl)
theorem dX0_shamed_26 : decode cX0_shamed 26 = .ok (.iconst 2, 1) := dk_5 (dk_at dksX0_shamed_1 3 rfl rfl)
theorem dX0_shamed_27 : decode cX0_shamed 27 = .ok (.iload_n 1, 1) := dk_27 (dk_at dksX0_shamed_1 4 rfl rfl)
theorem dX0_shamed_28 : decode cX0_shamed 28 = .ok (.iadd, 1) := dk_96 (dk_at dksX0_shamed_1 5 rfl rfl)
theorem dX0_shamed_29 : decode cX0_shamed 29 = .ok (.iaload, 1) := dk_46 (dk_at dksX0_shamed_1 6 rfl rfl)
theorem dX0_shamed_30 : decode cX0_shamed 30 = .ok (.iload 4, 2) := dk_21 4 (dk_at dksX0_shamed_1 7 rfl rfl)
theorem dX0_shamed_32 : decode cX0_shamed 32 = .ok (.isub, 1) := dk_100 (dk_at dksX0_shamed_1 9 rfl rfl)
theorem dX0_shamed_33 : decode cX0_shamed 33 = .ok (.aload_n 0, 1) := dk_42 (dk_at dksX0_shamed_1 10 rfl rfl)
theorem dX0_shamed_34 : decode cX0_shamed 34 = .ok (.getfield 41, 3) := dk_180 0 41 (dk_at dksX0_shamed_1 11 rfl rfl)
theorem dX0_shamed_37 : decode cX0_shamed 37 = .ok (.iconst 0, 1) := dk_3 (dk_at dksX0_shamed_1 14 rfl rfl)
theorem dX0_shamed_38 : decode cX0_shamed 38 = .ok (.iaload, 1) := dk_46 (dk_at dksX0_shamed_1 15 rfl rfl)
theorem dX0_shamed_39 : decode cX0_shamed 39 = .ok (.aload_n 0, 1) := dk_42 (dk_at dksX0_shamed_1 16 rfl rfl)
theorem dX0_shamed_40 : decode cX0_shamed 40 = .ok (.iconst 0, 1) := dk_3 (dk_at dksX0_shamed_1 17 rfl rfl)
theorem dX0_shamed_41 : decode cX0_shamed 41 = .ok (.iload_n 1, 1) := dk_27 (dk_at dksX0_shamed_1 18 rfl rfl)
theorem dX0_shamed_42 : decode cX0_shamed 42 = .ok (.invokevirtual 134, 3) := dk_182 0 134 (dk_at dksX0_shamed_1 19 rfl rfl)
theorem dX0_shamed_45 : decode cX0_shamed 45 = .ok (.invokestatic 137, 3) := dk_184 0 137 (dk_at dksX0_shamed_2 0 rfl rfl)
theorem dX0_shamed_48 : decode cX0_shamed 48 = .ok (.istore 5, 2) := dk_54 5 (dk_at dksX0_shamed_2 3 rfl rfl)
theorem dX0_shamed_50 : decode cX0_shamed 50 = .ok (.aload_n 0, 1) := dk_42 (dk_at dksX0_shamed_2 5 rfl rfl)
theorem dX0_shamed_51 : decode cX0_shamed 51 = .ok (.iconst 0, 1) := dk_3 (dk_at dksX0_shamed_2 6 rfl rfl)
theorem dX0_shamed_52 : decode cX0_shamed 52 = .ok (.iload_n 2, 1) := dk_28 (dk_at dksX0_shamed_2 7 rfl rfl)
theorem dX0_shamed_53 : decode cX0_shamed 53 = .ok (.iload_n 3, 1) := dk_29 (dk_at dksX0_shamed_2 8 rfl rfl)
theorem dX0_shamed_54 : decode cX0_shamed 54 = .ok (.iload_n 1, 1) := dk_27 (dk_at dksX0_shamed_2 9 rfl rfl)
theorem dX0_shamed_55 : decode cX0_shamed 55 = .ok (.iload 5, 2) := dk_21 5 (dk_at dksX0_shamed_2 10 rfl rfl)
theorem dX0_shamed_57 : decode cX0_shamed 57 = .ok (.invokevirtual 148, 3) := dk_182 0 148 (dk_at dksX0_shamed_2 12 rfl rfl)
theorem dX0_shamed_60 : decode cX0_shamed 60 = .ok (.ifCond .eq 6, 3) := dk_153 0 6 (dk_at dksX0_shamed_2 15 rfl rfl)
theorem dX0_shamed_63 : decode cX0_shamed 63 = .ok (.iload 4, 2) := dk_21 4 (dk_at dksX0_shamed_2 18 rfl rfl)
theorem dX0_shamed_65 : decode cX0_shamed 65 = .ok (.ireturn, 1) := dk_172 (dk_at dksX0_shamed_2 20 rfl rfl)
theorem dX0_shamed_66 : decode cX0_shamed 66 = .ok (.iinc 4 1, 3) := dk_132 4 1 (dk_at dksX0_shamed_2 21 rfl rfl)
theorem dX0_shamed_69 : decode cX0_shamed 69 = .ok (.goto (-66), 3) := dk_167 255 190 (dk_at dksX0_shamed_3 0 rfl rfl)
theorem dX0_shamed_72 : decode cX0_shamed 72 = .ok (.bipush (-9), 2) := dk_16 247 (dk_at dksX0_shamed_3 3 rfl rfl)
theorem dX0_shamed_74 : decode cX0_shamed 74 = .ok (.ireturn, 1) := dk_172 (dk_at dksX0_shamed_3 5 rfl rfl)
abbrev cX0_rowTo : ByteArray := prog_1_method_61_code
def yX0_rowTo : MethodName := ⟨RX0, "rowTo", "(I[II)V"⟩
def dkwX0_rowTo_0 : List UInt8 := [29, 188, 10, 58, 4, 44, 3, 25, 4, 3, 29, 184, 0, 87, 42, 180, 0, 25, 27, 25, 4, 83, 177]
abbrev dktX0_rowTo_0 : List UInt8 := dkwX0_rowTo_0 ++ []
theorem dksX0_rowTo_0 : cX0_rowTo.data.toList.drop 0 = dktX0_rowTo_0 := by decide +kernel
theorem dX0_rowTo_0 : decode cX0_rowTo 0 = .ok (.iload_n 3, 1) := dk_29 (dk_at dksX0_rowTo_0 0 rfl rfl)
theorem dX0_rowTo_1 : decode cX0_rowTo 1 = .ok (.newarray .int, 2) := dk_188_10 (dk_at dksX0_rowTo_0 1 rfl rfl)
theorem dX0_rowTo_3 : decode cX0_rowTo 3 = .ok (.astore 4, 2) := dk_58 4 (dk_at dksX0_rowTo_0 3 rfl rfl)
theorem dX0_rowTo_5 : decode cX0_rowTo 5 = .ok (.aload_n 2, 1) := dk_44 (dk_at dksX0_rowTo_0 5 rfl rfl)
theorem dX0_rowTo_6 : decode cX0_rowTo 6 = .ok (.iconst 0, 1) := dk_3 (dk_at dksX0_rowTo_0 6 rfl rfl)
theorem dX0_rowTo_7 : decode cX0_rowTo 7 = .ok (.aload 4, 2) := dk_25 4 (dk_at dksX0_rowTo_0 7 rfl rfl)
theorem dX0_rowTo_9 : decode cX0_rowTo 9 = .ok (.iconst 0, 1) := dk_3 (dk_at dksX0_rowTo_0 9 rfl rfl)
theorem dX0_rowTo_10 : decode cX0_rowTo 10 = .ok (.iload_n 3, 1) := dk_29 (dk_at dksX0_rowTo_0 10 rfl rfl)
theorem dX0_rowTo_11 : decode cX0_rowTo 11 = .ok (.invokestatic 87, 3) := dk_184 0 87 (dk_at dksX0_rowTo_0 11 rfl rfl)
theorem dX0_rowTo_14 : decode cX0_rowTo 14 = .ok (.aload_n 0, 1) := dk_42 (dk_at dksX0_rowTo_0 14 rfl rfl)
theorem dX0_rowTo_15 : decode cX0_rowTo 15 = .ok (.getfield 25, 3) := dk_180 0 25 (dk_at dksX0_rowTo_0 15 rfl rfl)
theorem dX0_rowTo_18 : decode cX0_rowTo 18 = .ok (.iload_n 1, 1) := dk_27 (dk_at dksX0_rowTo_0 18 rfl rfl)
theorem dX0_rowTo_19 : decode cX0_rowTo 19 = .ok (.aload 4, 2) := dk_25 4 (dk_at dksX0_rowTo_0 19 rfl rfl)
theorem dX0_rowTo_21 : decode cX0_rowTo 21 = .ok (.aastore, 1) := dk_83 (dk_at dksX0_rowTo_0 21 rfl rfl)
theorem dX0_rowTo_22 : decode cX0_rowTo 22 = .ok (.return_, 1) := dk_177 (dk_at dksX0_rowTo_0 22 rfl rfl)
abbrev cX0_darings : ByteArray := prog_1_method_66_code
def yX0_darings : MethodName := ⟨RX0, "darings", "(II)I"⟩
def dkwX0_darings_1 : List UInt8 := [182, 1, 11, 172]
abbrev dktX0_darings_1 : List UInt8 := dkwX0_darings_1 ++ []
def dkwX0_darings_0 : List UInt8 := [42, 27, 28, 182, 1, 8, 62, 29, 156, 0, 7, 29, 167, 0, 14, 42, 27, 42, 180, 0, 25, 28, 50]
abbrev dktX0_darings_0 : List UInt8 := dkwX0_darings_0 ++ dktX0_darings_1
theorem dksX0_darings_0 : cX0_darings.data.toList.drop 0 = dktX0_darings_0 := by decide +kernel
theorem dksX0_darings_1 : cX0_darings.data.toList.drop 23 = dktX0_darings_1 := dk_seg dksX0_darings_0 23 rfl rfl
theorem dX0_darings_0 : decode cX0_darings 0 = .ok (.aload_n 0, 1) := dk_42 (dk_at dksX0_darings_0 0 rfl rfl)
theorem dX0_darings_1 : decode cX0_darings 1 = .ok (.iload_n 1, 1) := dk_27 (dk_at dksX0_darings_0 1 rfl rfl)
theorem dX0_darings_2 : decode cX0_darings 2 = .ok (.iload_n 2, 1) := dk_28 (dk_at dksX0_darings_0 2 rfl rfl)
theorem dX0_darings_3 : decode cX0_darings 3 = .ok (.invokevirtual 264, 3) := dk_182 1 8 (dk_at dksX0_darings_0 3 rfl rfl)
theorem dX0_darings_6 : decode cX0_darings 6 = .ok (.istore_n 3, 1) := dk_62 (dk_at dksX0_darings_0 6 rfl rfl)
theorem dX0_darings_7 : decode cX0_darings 7 = .ok (.iload_n 3, 1) := dk_29 (dk_at dksX0_darings_0 7 rfl rfl)
theorem dX0_darings_8 : decode cX0_darings 8 = .ok (.ifCond .ge 7, 3) := dk_156 0 7 (dk_at dksX0_darings_0 8 rfl rfl)
theorem dX0_darings_11 : decode cX0_darings 11 = .ok (.iload_n 3, 1) := dk_29 (dk_at dksX0_darings_0 11 rfl rfl)
theorem dX0_darings_12 : decode cX0_darings 12 = .ok (.goto 14, 3) := dk_167 0 14 (dk_at dksX0_darings_0 12 rfl rfl)
theorem dX0_darings_15 : decode cX0_darings 15 = .ok (.aload_n 0, 1) := dk_42 (dk_at dksX0_darings_0 15 rfl rfl)
theorem dX0_darings_16 : decode cX0_darings 16 = .ok (.iload_n 1, 1) := dk_27 (dk_at dksX0_darings_0 16 rfl rfl)
theorem dX0_darings_17 : decode cX0_darings 17 = .ok (.aload_n 0, 1) := dk_42 (dk_at dksX0_darings_0 17 rfl rfl)
theorem dX0_darings_18 : decode cX0_darings 18 = .ok (.getfield 25, 3) := dk_180 0 25 (dk_at dksX0_darings_0 18 rfl rfl)
theorem dX0_darings_21 : decode cX0_darings 21 = .ok (.iload_n 2, 1) := dk_28 (dk_at dksX0_darings_0 21 rfl rfl)
theorem dX0_darings_22 : decode cX0_darings 22 = .ok (.aaload, 1) := dk_50 (dk_at dksX0_darings_0 22 rfl rfl)
theorem dX0_darings_23 : decode cX0_darings 23 = .ok (.invokevirtual 267, 3) := dk_182 1 11 (dk_at dksX0_darings_1 0 rfl rfl)
theorem dX0_darings_26 : decode cX0_darings 26 = .ok (.ireturn, 1) := dk_172 (dk_at dksX0_darings_1 3 rfl rfl)
abbrev cX0_needNotes : ByteArray := prog_1_method_63_code
def yX0_needNotes : MethodName := ⟨RX0, "needNotes", "(II)I"⟩
def dkwX0_needNotes_4 : List UInt8 := [167, 255, 228, 21, 4, 153, 0, 7, 3, 167, 0, 8, 42, 6, 182, 0, 75, 172]
abbrev dktX0_needNotes_4 : List UInt8 := dkwX0_needNotes_4 ++ []
def dkwX0_needNotes_3 : List UInt8 := [162, 0, 27, 25, 5, 21, 7, 46, 54, 8, 21, 4, 42, 21, 8, 182, 0, 208, 126, 54, 4, 132, 7, 1]
abbrev dktX0_needNotes_3 : List UInt8 := dkwX0_needNotes_3 ++ dktX0_needNotes_4
def dkwX0_needNotes_2 : List UInt8 := [182, 0, 75, 172, 4, 54, 4, 45, 58, 5, 25, 5, 190, 54, 6, 3, 54, 7, 21, 7, 21, 6]
abbrev dktX0_needNotes_2 : List UInt8 := dkwX0_needNotes_2 ++ dktX0_needNotes_3
def dkwX0_needNotes_1 : List UInt8 := [45, 199, 0, 9, 42, 4, 182, 0, 75, 172, 45, 190, 4, 16, 10, 184, 0, 65, 154, 0, 9, 42, 8]
abbrev dktX0_needNotes_1 : List UInt8 := dkwX0_needNotes_1 ++ dktX0_needNotes_2
def dkwX0_needNotes_0 : List UInt8 := [42, 27, 182, 0, 208, 153, 0, 10, 28, 184, 0, 69, 154, 0, 5, 2, 172, 42, 180, 0, 25, 28, 50, 78]
abbrev dktX0_needNotes_0 : List UInt8 := dkwX0_needNotes_0 ++ dktX0_needNotes_1
theorem dksX0_needNotes_0 : cX0_needNotes.data.toList.drop 0 = dktX0_needNotes_0 := by decide +kernel
theorem dksX0_needNotes_1 : cX0_needNotes.data.toList.drop 24 = dktX0_needNotes_1 := dk_seg dksX0_needNotes_0 24 rfl rfl
theorem dksX0_needNotes_2 : cX0_needNotes.data.toList.drop 47 = dktX0_needNotes_2 := dk_seg dksX0_needNotes_1 23 rfl rfl
theorem dksX0_needNotes_3 : cX0_needNotes.data.toList.drop 69 = dktX0_needNotes_3 := dk_seg dksX0_needNotes_2 22 rfl rfl
theorem dksX0_needNotes_4 : cX0_needNotes.data.toList.drop 93 = dktX0_needNotes_4 := dk_seg dksX0_needNotes_3 24 rfl rfl
theorem dX0_needNotes_0 : decode cX0_needNotes 0 = .ok (.aload_n 0, 1) := dk_42 (dk_at dksX0_needNotes_0 0 rfl rfl)
theorem dX0_needNotes_1 : decode cX0_needNotes 1 = .ok (.iload_n 1, 1) := dk_27 (dk_at dksX0_needNotes_0 1 rfl rfl)
theorem dX0_needNotes_2 : decode cX0_needNotes 2 = .ok (.invokevirtual 208, 3) := dk_182 0 208 (dk_at dksX0_needNotes_0 2 rfl rfl)
theorem dX0_needNotes_5 : decode cX0_needNotes 5 = .ok (.ifCond .eq 10, 3) := dk_153 0 10 (dk_at dksX0_needNotes_0 5 rfl rfl)
theorem dX0_needNotes_8 : decode cX0_needNotes 8 = .ok (.iload_n 2, 1) := dk_28 (dk_at dksX0_needNotes_0 8 rfl rfl)
theorem dX0_needNotes_9 : decode cX0_needNotes 9 = .ok (.invokestatic 69, 3) := dk_184 0 69 (dk_at dksX0_needNotes_0 9 rfl rfl)
theorem dX0_needNotes_12 : decode cX0_needNotes 12 = .ok (.ifCond .ne 5, 3) := dk_154 0 5 (dk_at dksX0_needNotes_0 12 rfl rfl)
theorem dX0_needNotes_15 : decode cX0_needNotes 15 = .ok (.iconst (-1), 1) := dk_2 (dk_at dksX0_needNotes_0 15 rfl rfl)
theorem dX0_needNotes_16 : decode cX0_needNotes 16 = .ok (.ireturn, 1) := dk_172 (dk_at dksX0_needNotes_0 16 rfl rfl)
theorem dX0_needNotes_17 : decode cX0_needNotes 17 = .ok (.aload_n 0, 1) := dk_42 (dk_at dksX0_needNotes_0 17 rfl rfl)
theorem dX0_needNotes_18 : decode cX0_needNotes 18 = .ok (.getfield 25, 3) := dk_180 0 25 (dk_at dksX0_needNotes_0 18 rfl rfl)
theorem dX0_needNotes_21 : decode cX0_needNotes 21 = .ok (.iload_n 2, 1) := dk_28 (dk_at dksX0_needNotes_0 21 rfl rfl)
theorem dX0_needNotes_22 : decode cX0_needNotes 22 = .ok (.aaload, 1) := dk_50 (dk_at dksX0_needNotes_0 22 rfl rfl)
theorem dX0_needNotes_23 : decode cX0_needNotes 23 = .ok (.astore_n 3, 1) := dk_78 (dk_at dksX0_needNotes_0 23 rfl rfl)
theorem dX0_needNotes_24 : decode cX0_needNotes 24 = .ok (.aload_n 3, 1) := dk_45 (dk_at dksX0_needNotes_1 0 rfl rfl)
theorem dX0_needNotes_25 : decode cX0_needNotes 25 = .ok (.ifnonnull 9, 3) := dk_199 0 9 (dk_at dksX0_needNotes_1 1 rfl rfl)
theorem dX0_needNotes_28 : decode cX0_needNotes 28 = .ok (.aload_n 0, 1) := dk_42 (dk_at dksX0_needNotes_1 4 rfl rfl)
theorem dX0_needNotes_29 : decode cX0_needNotes 29 = .ok (.iconst 1, 1) := dk_4 (dk_at dksX0_needNotes_1 5 rfl rfl)
theorem dX0_needNotes_30 : decode cX0_needNotes 30 = .ok (.invokevirtual 75, 3) := dk_182 0 75 (dk_at dksX0_needNotes_1 6 rfl rfl)
theorem dX0_needNotes_33 : decode cX0_needNotes 33 = .ok (.ireturn, 1) := dk_172 (dk_at dksX0_needNotes_1 9 rfl rfl)
theorem dX0_needNotes_34 : decode cX0_needNotes 34 = .ok (.aload_n 3, 1) := dk_45 (dk_at dksX0_needNotes_1 10 rfl rfl)
theorem dX0_needNotes_35 : decode cX0_needNotes 35 = .ok (.arraylength, 1) := dk_190 (dk_at dksX0_needNotes_1 11 rfl rfl)
theorem dX0_needNotes_36 : decode cX0_needNotes 36 = .ok (.iconst 1, 1) := dk_4 (dk_at dksX0_needNotes_1 12 rfl rfl)
theorem dX0_needNotes_37 : decode cX0_needNotes 37 = .ok (.bipush 10, 2) := dk_16 10 (dk_at dksX0_needNotes_1 13 rfl rfl)
theorem dX0_needNotes_39 : decode cX0_needNotes 39 = .ok (.invokestatic 65, 3) := dk_184 0 65 (dk_at dksX0_needNotes_1 15 rfl rfl)
theorem dX0_needNotes_42 : decode cX0_needNotes 42 = .ok (.ifCond .ne 9, 3) := dk_154 0 9 (dk_at dksX0_needNotes_1 18 rfl rfl)
theorem dX0_needNotes_45 : decode cX0_needNotes 45 = .ok (.aload_n 0, 1) := dk_42 (dk_at dksX0_needNotes_1 21 rfl rfl)
theorem dX0_needNotes_46 : decode cX0_needNotes 46 = .ok (.iconst 5, 1) := dk_8 (dk_at dksX0_needNotes_1 22 rfl rfl)
theorem dX0_needNotes_47 : decode cX0_needNotes 47 = .ok (.invokevirtual 75, 3) := dk_182 0 75 (dk_at dksX0_needNotes_2 0 rfl rfl)
theorem dX0_needNotes_50 : decode cX0_needNotes 50 = .ok (.ireturn, 1) := dk_172 (dk_at dksX0_needNotes_2 3 rfl rfl)
theorem dX0_needNotes_51 : decode cX0_needNotes 51 = .ok (.iconst 1, 1) := dk_4 (dk_at dksX0_needNotes_2 4 rfl rfl)
theorem dX0_needNotes_52 : decode cX0_needNotes 52 = .ok (.istore 4, 2) := dk_54 4 (dk_at dksX0_needNotes_2 5 rfl rfl)
theorem dX0_needNotes_54 : decode cX0_needNotes 54 = .ok (.aload_n 3, 1) := dk_45 (dk_at dksX0_needNotes_2 7 rfl rfl)
theorem dX0_needNotes_55 : decode cX0_needNotes 55 = .ok (.astore 5, 2) := dk_58 5 (dk_at dksX0_needNotes_2 8 rfl rfl)
theorem dX0_needNotes_57 : decode cX0_needNotes 57 = .ok (.aload 5, 2) := dk_25 5 (dk_at dksX0_needNotes_2 10 rfl rfl)
theorem dX0_needNotes_59 : decode cX0_needNotes 59 = .ok (.arraylength, 1) := dk_190 (dk_at dksX0_needNotes_2 12 rfl rfl)
theorem dX0_needNotes_60 : decode cX0_needNotes 60 = .ok (.istore 6, 2) := dk_54 6 (dk_at dksX0_needNotes_2 13 rfl rfl)
theorem dX0_needNotes_62 : decode cX0_needNotes 62 = .ok (.iconst 0, 1) := dk_3 (dk_at dksX0_needNotes_2 15 rfl rfl)
theorem dX0_needNotes_63 : decode cX0_needNotes 63 = .ok (.istore 7, 2) := dk_54 7 (dk_at dksX0_needNotes_2 16 rfl rfl)
theorem dX0_needNotes_65 : decode cX0_needNotes 65 = .ok (.iload 7, 2) := dk_21 7 (dk_at dksX0_needNotes_2 18 rfl rfl)
theorem dX0_needNotes_67 : decode cX0_needNotes 67 = .ok (.iload 6, 2) := dk_21 6 (dk_at dksX0_needNotes_2 20 rfl rfl)
theorem dX0_needNotes_69 : decode cX0_needNotes 69 = .ok (.if_icmp .ge 27, 3) := dk_162 0 27 (dk_at dksX0_needNotes_3 0 rfl rfl)
theorem dX0_needNotes_72 : decode cX0_needNotes 72 = .ok (.aload 5, 2) := dk_25 5 (dk_at dksX0_needNotes_3 3 rfl rfl)
theorem dX0_needNotes_74 : decode cX0_needNotes 74 = .ok (.iload 7, 2) := dk_21 7 (dk_at dksX0_needNotes_3 5 rfl rfl)
theorem dX0_needNotes_76 : decode cX0_needNotes 76 = .ok (.iaload, 1) := dk_46 (dk_at dksX0_needNotes_3 7 rfl rfl)
theorem dX0_needNotes_77 : decode cX0_needNotes 77 = .ok (.istore 8, 2) := dk_54 8 (dk_at dksX0_needNotes_3 8 rfl rfl)
theorem dX0_needNotes_79 : decode cX0_needNotes 79 = .ok (.iload 4, 2) := dk_21 4 (dk_at dksX0_needNotes_3 10 rfl rfl)
theorem dX0_needNotes_81 : decode cX0_needNotes 81 = .ok (.aload_n 0, 1) := dk_42 (dk_at dksX0_needNotes_3 12 rfl rfl)
theorem dX0_needNotes_82 : decode cX0_needNotes 82 = .ok (.iload 8, 2) := dk_21 8 (dk_at dksX0_needNotes_3 13 rfl rfl)
theorem dX0_needNotes_84 : decode cX0_needNotes 84 = .ok (.invokevirtual 208, 3) := dk_182 0 208 (dk_at dksX0_needNotes_3 15 rfl rfl)
theorem dX0_needNotes_87 : decode cX0_needNotes 87 = .ok (.iand, 1) := dk_126 (dk_at dksX0_needNotes_3 18 rfl rfl)
theorem dX0_needNotes_88 : decode cX0_needNotes 88 = .ok (.istore 4, 2) := dk_54 4 (dk_at dksX0_needNotes_3 19 rfl rfl)
theorem dX0_needNotes_90 : decode cX0_needNotes 90 = .ok (.iinc 7 1, 3) := dk_132 7 1 (dk_at dksX0_needNotes_3 21 rfl rfl)
theorem dX0_needNotes_93 : decode cX0_needNotes 93 = .ok (.goto (-28), 3) := dk_167 255 228 (dk_at dksX0_needNotes_4 0 rfl rfl)
theorem dX0_needNotes_96 : decode cX0_needNotes 96 = .ok (.iload 4, 2) := dk_21 4 (dk_at dksX0_needNotes_4 3 rfl rfl)
theorem dX0_needNotes_98 : decode cX0_needNotes 98 = .ok (.ifCond .eq 7, 3) := dk_153 0 7 (dk_at dksX0_needNotes_4 5 rfl rfl)
theorem dX0_needNotes_101 : decode cX0_needNotes 101 = .ok (.iconst 0, 1) := dk_3 (dk_at dksX0_needNotes_4 8 rfl rfl)
theorem dX0_needNotes_102 : decode cX0_needNotes 102 = .ok (.goto 8, 3) := dk_167 0 8 (dk_at dksX0_needNotes_4 9 rfl rfl)
theorem dX0_needNotes_105 : decode cX0_needNotes 105 = .ok (.aload_n 0, 1) := dk_42 (dk_at dksX0_needNotes_4 12 rfl rfl)
theorem dX0_needNotes_106 : decode cX0_needNotes 106 = .ok (.iconst 3, 1) := dk_6 (dk_at dksX0_needNotes_4 13 rfl rfl)
theorem dX0_needNotes_107 : decode cX0_needNotes 107 = .ok (.invokevirtual 75, 3) := dk_182 0 75 (dk_at dksX0_needNotes_4 14 rfl rfl)
theorem dX0_needNotes_110 : decode cX0_needNotes 110 = .ok (.ireturn, 1) := dk_172 (dk_at dksX0_needNotes_4 17 rfl rfl)
abbrev cX0_daringSet : ByteArray := prog_1_method_65_code
def yX0_daringSet : MethodName := ⟨RX0, "daringSet", "(I[I)I"⟩
def dkwX0_daringSet_1 : List UInt8 := [4, 21, 4, 120, 167, 0, 4, 3, 128, 62, 132, 4, 1, 167, 255, 224, 29, 172]
abbrev dktX0_daringSet_1 : List UInt8 := dkwX0_daringSet_1 ++ []
def dkwX0_daringSet_0 : List UInt8 := [3, 62, 3, 54, 4, 21, 4, 16, 20, 163, 0, 31, 29, 42, 27, 21, 4, 44, 182, 1, 4, 153, 0, 10]
abbrev dktX0_daringSet_0 : List UInt8 := dkwX0_daringSet_0 ++ dktX0_daringSet_1
theorem dksX0_daringSet_0 : cX0_daringSet.data.toList.drop 0 = dktX0_daringSet_0 := by decide +kernel
theorem dksX0_daringSet_1 : cX0_daringSet.data.toList.drop 24 = dktX0_daringSet_1 := dk_seg dksX0_daringSet_0 24 rfl rfl
theorem dX0_daringSet_0 : decode cX0_daringSet 0 = .ok (.iconst 0, 1) := dk_3 (dk_at dksX0_daringSet_0 0 rfl rfl)
theorem dX0_daringSet_1 : decode cX0_daringSet 1 = .ok (.istore_n 3, 1) := dk_62 (dk_at dksX0_daringSet_0 1 rfl rfl)
theorem dX0_daringSet_2 : decode cX0_daringSet 2 = .ok (.iconst 0, 1) := dk_3 (dk_at dksX0_daringSet_0 2 rfl rfl)
theorem dX0_daringSet_3 : decode cX0_daringSet 3 = .ok (.istore 4, 2) := dk_54 4 (dk_at dksX0_daringSet_0 3 rfl rfl)
theorem dX0_daringSet_5 : decode cX0_daringSet 5 = .ok (.iload 4, 2) := dk_21 4 (dk_at dksX0_daringSet_0 5 rfl rfl)
theorem dX0_daringSet_7 : decode cX0_daringSet 7 = .ok (.bipush 20, 2) := dk_16 20 (dk_at dksX0_daringSet_0 7 rfl rfl)
theorem dX0_daringSet_9 : decode cX0_daringSet 9 = .ok (.if_icmp .gt 31, 3) := dk_163 0 31 (dk_at dksX0_daringSet_0 9 rfl rfl)
theorem dX0_daringSet_12 : decode cX0_daringSet 12 = .ok (.iload_n 3, 1) := dk_29 (dk_at dksX0_daringSet_0 12 rfl rfl)
theorem dX0_daringSet_13 : decode cX0_daringSet 13 = .ok (.aload_n 0, 1) := dk_42 (dk_at dksX0_daringSet_0 13 rfl rfl)
theorem dX0_daringSet_14 : decode cX0_daringSet 14 = .ok (.iload_n 1, 1) := dk_27 (dk_at dksX0_daringSet_0 14 rfl rfl)
theorem dX0_daringSet_15 : decode cX0_daringSet 15 = .ok (.iload 4, 2) := dk_21 4 (dk_at dksX0_daringSet_0 15 rfl rfl)
theorem dX0_daringSet_17 : decode cX0_daringSet 17 = .ok (.aload_n 2, 1) := dk_44 (dk_at dksX0_daringSet_0 17 rfl rfl)
theorem dX0_daringSet_18 : decode cX0_daringSet 18 = .ok (.invokevirtual 260, 3) := dk_182 1 4 (dk_at dksX0_daringSet_0 18 rfl rfl)
theorem dX0_daringSet_21 : decode cX0_daringSet 21 = .ok (.ifCond .eq 10, 3) := dk_153 0 10 (dk_at dksX0_daringSet_0 21 rfl rfl)
theorem dX0_daringSet_24 : decode cX0_daringSet 24 = .ok (.iconst 1, 1) := dk_4 (dk_at dksX0_daringSet_1 0 rfl rfl)
theorem dX0_daringSet_25 : decode cX0_daringSet 25 = .ok (.iload 4, 2) := dk_21 4 (dk_at dksX0_daringSet_1 1 rfl rfl)
theorem dX0_daringSet_27 : decode cX0_daringSet 27 = .ok (.ishl, 1) := dk_120 (dk_at dksX0_daringSet_1 3 rfl rfl)
theorem dX0_daringSet_28 : decode cX0_daringSet 28 = .ok (.goto 4, 3) := dk_167 0 4 (dk_at dksX0_daringSet_1 4 rfl rfl)
theorem dX0_daringSet_31 : decode cX0_daringSet 31 = .ok (.iconst 0, 1) := dk_3 (dk_at dksX0_daringSet_1 7 rfl rfl)
theorem dX0_daringSet_32 : decode cX0_daringSet 32 = .ok (.ior, 1) := dk_128 (dk_at dksX0_daringSet_1 8 rfl rfl)
theorem dX0_daringSet_33 : decode cX0_daringSet 33 = .ok (.istore_n 3, 1) := dk_62 (dk_at dksX0_daringSet_1 9 rfl rfl)
theorem dX0_daringSet_34 : decode cX0_daringSet 34 = .ok (.iinc 4 1, 3) := dk_132 4 1 (dk_at dksX0_daringSet_1 10 rfl rfl)
theorem dX0_daringSet_37 : decode cX0_daringSet 37 = .ok (.goto (-32), 3) := dk_167 255 224 (dk_at dksX0_daringSet_1 13 rfl rfl)
theorem dX0_daringSet_40 : decode cX0_daringSet 40 = .ok (.iload_n 3, 1) := dk_29 (dk_at dksX0_daringSet_1 16 rfl rfl)
theorem dX0_daringSet_41 : decode cX0_daringSet 41 = .ok (.ireturn, 1) := dk_172 (dk_at dksX0_daringSet_1 17 rfl rfl)
abbrev cX0_isNoted : ByteArray := prog_1_method_64_code
def yX0_isNoted : MethodName := ⟨RX0, "isNoted", "(II[I)Z"⟩
def dkwX0_isNoted_2 : List UInt8 := [167, 0, 4, 3, 54, 4, 132, 5, 1, 167, 255, 222, 21, 4, 172]
abbrev dktX0_isNoted_2 : List UInt8 := dkwX0_isNoted_2 ++ []
def dkwX0_isNoted_1 : List UInt8 := [45, 190, 162, 0, 33, 21, 4, 153, 0, 28, 42, 4, 182, 0, 232, 45, 21, 5, 46, 160, 0, 7, 4]
abbrev dktX0_isNoted_1 : List UInt8 := dkwX0_isNoted_1 ++ dktX0_isNoted_2
def dkwX0_isNoted_0 : List UInt8 := [42, 3, 4, 182, 0, 242, 42, 180, 0, 41, 16, 22, 27, 96, 28, 79, 4, 54, 4, 3, 54, 5, 21, 5]
abbrev dktX0_isNoted_0 : List UInt8 := dkwX0_isNoted_0 ++ dktX0_isNoted_1
theorem dksX0_isNoted_0 : cX0_isNoted.data.toList.drop 0 = dktX0_isNoted_0 := by decide +kernel
theorem dksX0_isNoted_1 : cX0_isNoted.data.toList.drop 24 = dktX0_isNoted_1 := dk_seg dksX0_isNoted_0 24 rfl rfl
theorem dksX0_isNoted_2 : cX0_isNoted.data.toList.drop 47 = dktX0_isNoted_2 := dk_seg dksX0_isNoted_1 23 rfl rfl
theorem dX0_isNoted_0 : decode cX0_isNoted 0 = .ok (.aload_n 0, 1) := dk_42 (dk_at dksX0_isNoted_0 0 rfl rfl)
theorem dX0_isNoted_1 : decode cX0_isNoted 1 = .ok (.iconst 0, 1) := dk_3 (dk_at dksX0_isNoted_0 1 rfl rfl)
theorem dX0_isNoted_2 : decode cX0_isNoted 2 = .ok (.iconst 1, 1) := dk_4 (dk_at dksX0_isNoted_0 2 rfl rfl)
theorem dX0_isNoted_3 : decode cX0_isNoted 3 = .ok (.invokevirtual 242, 3) := dk_182 0 242 (dk_at dksX0_isNoted_0 3 rfl rfl)
theorem dX0_isNoted_6 : decode cX0_isNoted 6 = .ok (.aload_n 0, 1) := dk_42 (dk_at dksX0_isNoted_0 6 rfl rfl)
theorem dX0_isNoted_7 : decode cX0_isNoted 7 = .ok (.getfield 41, 3) := dk_180 0 41 (dk_at dksX0_isNoted_0 7 rfl rfl)
theorem dX0_isNoted_10 : decode cX0_isNoted 10 = .ok (.bipush 22, 2) := dk_16 22 (dk_at dksX0_isNoted_0 10 rfl rfl)
theorem dX0_isNoted_12 : decode cX0_isNoted 12 = .ok (.iload_n 1, 1) := dk_27 (dk_at dksX0_isNoted_0 12 rfl rfl)
theorem dX0_isNoted_13 : decode cX0_isNoted 13 = .ok (.iadd, 1) := dk_96 (dk_at dksX0_isNoted_0 13 rfl rfl)
theorem dX0_isNoted_14 : decode cX0_isNoted 14 = .ok (.iload_n 2, 1) := dk_28 (dk_at dksX0_isNoted_0 14 rfl rfl)
theorem dX0_isNoted_15 : decode cX0_isNoted 15 = .ok (.iastore, 1) := dk_79 (dk_at dksX0_isNoted_0 15 rfl rfl)
theorem dX0_isNoted_16 : decode cX0_isNoted 16 = .ok (.iconst 1, 1) := dk_4 (dk_at dksX0_isNoted_0 16 rfl rfl)
theorem dX0_isNoted_17 : decode cX0_isNoted 17 = .ok (.istore 4, 2) := dk_54 4 (dk_at dksX0_isNoted_0 17 rfl rfl)
theorem dX0_isNoted_19 : decode cX0_isNoted 19 = .ok (.iconst 0, 1) := dk_3 (dk_at dksX0_isNoted_0 19 rfl rfl)
theorem dX0_isNoted_20 : decode cX0_isNoted 20 = .ok (.istore 5, 2) := dk_54 5 (dk_at dksX0_isNoted_0 20 rfl rfl)
theorem dX0_isNoted_22 : decode cX0_isNoted 22 = .ok (.iload 5, 2) := dk_21 5 (dk_at dksX0_isNoted_0 22 rfl rfl)
theorem dX0_isNoted_24 : decode cX0_isNoted 24 = .ok (.aload_n 3, 1) := dk_45 (dk_at dksX0_isNoted_1 0 rfl rfl)
theorem dX0_isNoted_25 : decode cX0_isNoted 25 = .ok (.arraylength, 1) := dk_190 (dk_at dksX0_isNoted_1 1 rfl rfl)
theorem dX0_isNoted_26 : decode cX0_isNoted 26 = .ok (.if_icmp .ge 33, 3) := dk_162 0 33 (dk_at dksX0_isNoted_1 2 rfl rfl)
theorem dX0_isNoted_29 : decode cX0_isNoted 29 = .ok (.iload 4, 2) := dk_21 4 (dk_at dksX0_isNoted_1 5 rfl rfl)
theorem dX0_isNoted_31 : decode cX0_isNoted 31 = .ok (.ifCond .eq 28, 3) := dk_153 0 28 (dk_at dksX0_isNoted_1 7 rfl rfl)
theorem dX0_isNoted_34 : decode cX0_isNoted 34 = .ok (.aload_n 0, 1) := dk_42 (dk_at dksX0_isNoted_1 10 rfl rfl)
theorem dX0_isNoted_35 : decode cX0_isNoted 35 = .ok (.iconst 1, 1) := dk_4 (dk_at dksX0_isNoted_1 11 rfl rfl)
theorem dX0_isNoted_36 : decode cX0_isNoted 36 = .ok (.invokevirtual 232, 3) := dk_182 0 232 (dk_at dksX0_isNoted_1 12 rfl rfl)
theorem dX0_isNoted_39 : decode cX0_isNoted 39 = .ok (.aload_n 3, 1) := dk_45 (dk_at dksX0_isNoted_1 15 rfl rfl)
theorem dX0_isNoted_40 : decode cX0_isNoted 40 = .ok (.iload 5, 2) := dk_21 5 (dk_at dksX0_isNoted_1 16 rfl rfl)
theorem dX0_isNoted_42 : decode cX0_isNoted 42 = .ok (.iaload, 1) := dk_46 (dk_at dksX0_isNoted_1 18 rfl rfl)
theorem dX0_isNoted_43 : decode cX0_isNoted 43 = .ok (.if_icmp .ne 7, 3) := dk_160 0 7 (dk_at dksX0_isNoted_1 19 rfl rfl)
theorem dX0_isNoted_46 : decode cX0_isNoted 46 = .ok (.iconst 1, 1) := dk_4 (dk_at dksX0_isNoted_1 22 rfl rfl)
theorem dX0_isNoted_47 : decode cX0_isNoted 47 = .ok (.goto 4, 3) := dk_167 0 4 (dk_at dksX0_isNoted_2 0 rfl rfl)
theorem dX0_isNoted_50 : decode cX0_isNoted 50 = .ok (.iconst 0, 1) := dk_3 (dk_at dksX0_isNoted_2 3 rfl rfl)
theorem dX0_isNoted_51 : decode cX0_isNoted 51 = .ok (.istore 4, 2) := dk_54 4 (dk_at dksX0_isNoted_2 4 rfl rfl)
theorem dX0_isNoted_53 : decode cX0_isNoted 53 = .ok (.iinc 5 1, 3) := dk_132 5 1 (dk_at dksX0_isNoted_2 6 rfl rfl)
theorem dX0_isNoted_56 : decode cX0_isNoted 56 = .ok (.goto (-34), 3) := dk_167 255 222 (dk_at dksX0_isNoted_2 9 rfl rfl)
theorem dX0_isNoted_59 : decode cX0_isNoted 59 = .ok (.iload 4, 2) := dk_21 4 (dk_at dksX0_isNoted_2 12 rfl rfl)
theorem dX0_isNoted_61 : decode cX0_isNoted 61 = .ok (.ireturn, 1) := dk_172 (dk_at dksX0_isNoted_2 14 rfl rfl)
abbrev cX0_kinds : ByteArray := prog_1_method_67_code
def yX0_kinds : MethodName := ⟨RX0, "kinds", "(II)I"⟩
def dkwX0_kinds_4 : List UInt8 := [83, 21, 5, 172]
abbrev dktX0_kinds_4 : List UInt8 := dkwX0_kinds_4 ++ []
def dkwX0_kinds_3 : List UInt8 := [4, 21, 6, 120, 167, 0, 4, 3, 128, 54, 5, 132, 6, 1, 167, 255, 198, 42, 180, 0, 37, 27, 25, 4]
abbrev dktX0_kinds_3 : List UInt8 := dkwX0_kinds_3 ++ dktX0_kinds_4
def dkwX0_kinds_2 : List UInt8 := [21, 5, 42, 27, 42, 180, 0, 41, 5, 27, 96, 46, 42, 180, 0, 25, 28, 50, 182, 1, 4, 153, 0, 10]
abbrev dktX0_kinds_2 : List UInt8 := dkwX0_kinds_2 ++ dktX0_kinds_3
def dkwX0_kinds_1 : List UInt8 := [3, 54, 6, 21, 6, 16, 6, 162, 0, 57, 42, 180, 0, 37, 27, 42, 21, 6, 27, 182, 0, 198, 83]
abbrev dktX0_kinds_1 : List UInt8 := dkwX0_kinds_1 ++ dktX0_kinds_2
def dkwX0_kinds_0 : List UInt8 := [42, 27, 28, 182, 1, 8, 62, 29, 156, 0, 5, 29, 172, 42, 180, 0, 37, 27, 50, 58, 4, 3, 54, 5]
abbrev dktX0_kinds_0 : List UInt8 := dkwX0_kinds_0 ++ dktX0_kinds_1
theorem dksX0_kinds_0 : cX0_kinds.data.toList.drop 0 = dktX0_kinds_0 := by decide +kernel
theorem dksX0_kinds_1 : cX0_kinds.data.toList.drop 24 = dktX0_kinds_1 := dk_seg dksX0_kinds_0 24 rfl rfl
theorem dksX0_kinds_2 : cX0_kinds.data.toList.drop 47 = dktX0_kinds_2 := dk_seg dksX0_kinds_1 23 rfl rfl
theorem dksX0_kinds_3 : cX0_kinds.data.toList.drop 71 = dktX0_kinds_3 := dk_seg dksX0_kinds_2 24 rfl rfl
theorem dksX0_kinds_4 : cX0_kinds.data.toList.drop 95 = dktX0_kinds_4 := dk_seg dksX0_kinds_3 24 rfl rfl
theorem dX0_kinds_0 : decode cX0_kinds 0 = .ok (.aload_n 0, 1) := dk_42 (dk_at dksX0_kinds_0 0 rfl rfl)
theorem dX0_kinds_1 : decode cX0_kinds 1 = .ok (.iload_n 1, 1) := dk_27 (dk_at dksX0_kinds_0 1 rfl rfl)
theorem dX0_kinds_2 : decode cX0_kinds 2 = .ok (.iload_n 2, 1) := dk_28 (dk_at dksX0_kinds_0 2 rfl rfl)
theorem dX0_kinds_3 : decode cX0_kinds 3 = .ok (.invokevirtual 264, 3) := dk_182 1 8 (dk_at dksX0_kinds_0 3 rfl rfl)
theorem dX0_kinds_6 : decode cX0_kinds 6 = .ok (.istore_n 3, 1) := dk_62 (dk_at dksX0_kinds_0 6 rfl rfl)
theorem dX0_kinds_7 : decode cX0_kinds 7 = .ok (.iload_n 3, 1) := dk_29 (dk_at dksX0_kinds_0 7 rfl rfl)
theorem dX0_kinds_8 : decode cX0_kinds 8 = .ok (.ifCond .ge 5, 3) := dk_156 0 5 (dk_at dksX0_kinds_0 8 rfl rfl)
theorem dX0_kinds_11 : decode cX0_kinds 11 = .ok (.iload_n 3, 1) := dk_29 (dk_at dksX0_kinds_0 11 rfl rfl)
theorem dX0_kinds_12 : decode cX0_kinds 12 = .ok (.ireturn, 1) := dk_172 (dk_at dksX0_kinds_0 12 rfl rfl)
theorem dX0_kinds_13 : decode cX0_kinds 13 = .ok (.aload_n 0, 1) := dk_42 (dk_at dksX0_kinds_0 13 rfl rfl)
theorem dX0_kinds_14 : decode cX0_kinds 14 = .ok (.getfield 37, 3) := dk_180 0 37 (dk_at dksX0_kinds_0 14 rfl rfl)
theorem dX0_kinds_17 : decode cX0_kinds 17 = .ok (.iload_n 1, 1) := dk_27 (dk_at dksX0_kinds_0 17 rfl rfl)
theorem dX0_kinds_18 : decode cX0_kinds 18 = .ok (.aaload, 1) := dk_50 (dk_at dksX0_kinds_0 18 rfl rfl)
theorem dX0_kinds_19 : decode cX0_kinds 19 = .ok (.astore 4, 2) := dk_58 4 (dk_at dksX0_kinds_0 19 rfl rfl)
theorem dX0_kinds_21 : decode cX0_kinds 21 = .ok (.iconst 0, 1) := dk_3 (dk_at dksX0_kinds_0 21 rfl rfl)
theorem dX0_kinds_22 : decode cX0_kinds 22 = .ok (.istore 5, 2) := dk_54 5 (dk_at dksX0_kinds_0 22 rfl rfl)
theorem dX0_kinds_24 : decode cX0_kinds 24 = .ok (.iconst 0, 1) := dk_3 (dk_at dksX0_kinds_1 0 rfl rfl)
theorem dX0_kinds_25 : decode cX0_kinds 25 = .ok (.istore 6, 2) := dk_54 6 (dk_at dksX0_kinds_1 1 rfl rfl)
theorem dX0_kinds_27 : decode cX0_kinds 27 = .ok (.iload 6, 2) := dk_21 6 (dk_at dksX0_kinds_1 3 rfl rfl)
theorem dX0_kinds_29 : decode cX0_kinds 29 = .ok (.bipush 6, 2) := dk_16 6 (dk_at dksX0_kinds_1 5 rfl rfl)
theorem dX0_kinds_31 : decode cX0_kinds 31 = .ok (.if_icmp .ge 57, 3) := dk_162 0 57 (dk_at dksX0_kinds_1 7 rfl rfl)
theorem dX0_kinds_34 : decode cX0_kinds 34 = .ok (.aload_n 0, 1) := dk_42 (dk_at dksX0_kinds_1 10 rfl rfl)
theorem dX0_kinds_35 : decode cX0_kinds 35 = .ok (.getfield 37, 3) := dk_180 0 37 (dk_at dksX0_kinds_1 11 rfl rfl)
theorem dX0_kinds_38 : decode cX0_kinds 38 = .ok (.iload_n 1, 1) := dk_27 (dk_at dksX0_kinds_1 14 rfl rfl)
theorem dX0_kinds_39 : decode cX0_kinds 39 = .ok (.aload_n 0, 1) := dk_42 (dk_at dksX0_kinds_1 15 rfl rfl)
theorem dX0_kinds_40 : decode cX0_kinds 40 = .ok (.iload 6, 2) := dk_21 6 (dk_at dksX0_kinds_1 16 rfl rfl)
theorem dX0_kinds_42 : decode cX0_kinds 42 = .ok (.iload_n 1, 1) := dk_27 (dk_at dksX0_kinds_1 18 rfl rfl)
theorem dX0_kinds_43 : decode cX0_kinds 43 = .ok (.invokevirtual 198, 3) := dk_182 0 198 (dk_at dksX0_kinds_1 19 rfl rfl)
theorem dX0_kinds_46 : decode cX0_kinds 46 = .ok (.aastore, 1) := dk_83 (dk_at dksX0_kinds_1 22 rfl rfl)
theorem dX0_kinds_47 : decode cX0_kinds 47 = .ok (.iload 5, 2) := dk_21 5 (dk_at dksX0_kinds_2 0 rfl rfl)
theorem dX0_kinds_49 : decode cX0_kinds 49 = .ok (.aload_n 0, 1) := dk_42 (dk_at dksX0_kinds_2 2 rfl rfl)
theorem dX0_kinds_50 : decode cX0_kinds 50 = .ok (.iload_n 1, 1) := dk_27 (dk_at dksX0_kinds_2 3 rfl rfl)
theorem dX0_kinds_51 : decode cX0_kinds 51 = .ok (.aload_n 0, 1) := dk_42 (dk_at dksX0_kinds_2 4 rfl rfl)
theorem dX0_kinds_52 : decode cX0_kinds 52 = .ok (.getfield 41, 3) := dk_180 0 41 (dk_at dksX0_kinds_2 5 rfl rfl)
theorem dX0_kinds_55 : decode cX0_kinds 55 = .ok (.iconst 2, 1) := dk_5 (dk_at dksX0_kinds_2 8 rfl rfl)
theorem dX0_kinds_56 : decode cX0_kinds 56 = .ok (.iload_n 1, 1) := dk_27 (dk_at dksX0_kinds_2 9 rfl rfl)
theorem dX0_kinds_57 : decode cX0_kinds 57 = .ok (.iadd, 1) := dk_96 (dk_at dksX0_kinds_2 10 rfl rfl)
theorem dX0_kinds_58 : decode cX0_kinds 58 = .ok (.iaload, 1) := dk_46 (dk_at dksX0_kinds_2 11 rfl rfl)
theorem dX0_kinds_59 : decode cX0_kinds 59 = .ok (.aload_n 0, 1) := dk_42 (dk_at dksX0_kinds_2 12 rfl rfl)
theorem dX0_kinds_60 : decode cX0_kinds 60 = .ok (.getfield 25, 3) := dk_180 0 25 (dk_at dksX0_kinds_2 13 rfl rfl)
theorem dX0_kinds_63 : decode cX0_kinds 63 = .ok (.iload_n 2, 1) := dk_28 (dk_at dksX0_kinds_2 16 rfl rfl)
theorem dX0_kinds_64 : decode cX0_kinds 64 = .ok (.aaload, 1) := dk_50 (dk_at dksX0_kinds_2 17 rfl rfl)
theorem dX0_kinds_65 : decode cX0_kinds 65 = .ok (.invokevirtual 260, 3) := dk_182 1 4 (dk_at dksX0_kinds_2 18 rfl rfl)
theorem dX0_kinds_68 : decode cX0_kinds 68 = .ok (.ifCond .eq 10, 3) := dk_153 0 10 (dk_at dksX0_kinds_2 21 rfl rfl)
theorem dX0_kinds_71 : decode cX0_kinds 71 = .ok (.iconst 1, 1) := dk_4 (dk_at dksX0_kinds_3 0 rfl rfl)
theorem dX0_kinds_72 : decode cX0_kinds 72 = .ok (.iload 6, 2) := dk_21 6 (dk_at dksX0_kinds_3 1 rfl rfl)
theorem dX0_kinds_74 : decode cX0_kinds 74 = .ok (.ishl, 1) := dk_120 (dk_at dksX0_kinds_3 3 rfl rfl)
theorem dX0_kinds_75 : decode cX0_kinds 75 = .ok (.goto 4, 3) := dk_167 0 4 (dk_at dksX0_kinds_3 4 rfl rfl)
theorem dX0_kinds_78 : decode cX0_kinds 78 = .ok (.iconst 0, 1) := dk_3 (dk_at dksX0_kinds_3 7 rfl rfl)
theorem dX0_kinds_79 : decode cX0_kinds 79 = .ok (.ior, 1) := dk_128 (dk_at dksX0_kinds_3 8 rfl rfl)
theorem dX0_kinds_80 : decode cX0_kinds 80 = .ok (.istore 5, 2) := dk_54 5 (dk_at dksX0_kinds_3 9 rfl rfl)
theorem dX0_kinds_82 : decode cX0_kinds 82 = .ok (.iinc 6 1, 3) := dk_132 6 1 (dk_at dksX0_kinds_3 11 rfl rfl)
theorem dX0_kinds_85 : decode cX0_kinds 85 = .ok (.goto (-58), 3) := dk_167 255 198 (dk_at dksX0_kinds_3 14 rfl rfl)
theorem dX0_kinds_88 : decode cX0_kinds 88 = .ok (.aload_n 0, 1) := dk_42 (dk_at dksX0_kinds_3 17 rfl rfl)
theorem dX0_kinds_89 : decode cX0_kinds 89 = .ok (.getfield 37, 3) := dk_180 0 37 (dk_at dksX0_kinds_3 18 rfl rfl)
theorem dX0_kinds_92 : decode cX0_kinds 92 = .ok (.iload_n 1, 1) := dk_27 (dk_at dksX0_kinds_3 21 rfl rfl)
theorem dX0_kinds_93 : decode cX0_kinds 93 = .ok (.aload 4, 2) := dk_25 4 (dk_at dksX0_kinds_3 22 rfl rfl)
theorem dX0_kinds_95 : decode cX0_kinds 95 = .ok (.aastore, 1) := dk_83 (dk_at dksX0_kinds_4 0 rfl rfl)
theorem dX0_kinds_96 : decode cX0_kinds 96 = .ok (.iload 5, 2) := dk_21 5 (dk_at dksX0_kinds_4 1 rfl rfl)
theorem dX0_kinds_98 : decode cX0_kinds 98 = .ok (.ireturn, 1) := dk_172 (dk_at dksX0_kinds_4 3 rfl rfl)
abbrev cX0_look : ByteArray := prog_1_method_69_code
def yX0_look : MethodName := ⟨RX0, "look", "(II)I"⟩
def dkwX0_look_4 : List UInt8 := [21, 6, 21, 5, 182, 0, 79, 172]
abbrev dktX0_look_4 : List UInt8 := dkwX0_look_4 ++ []
def dkwX0_look_3 : List UInt8 := [167, 0, 5, 21, 5, 54, 5, 21, 6, 21, 8, 184, 1, 18, 54, 6, 132, 7, 1, 167, 255, 210, 42]
abbrev dktX0_look_3 : List UInt8 := dkwX0_look_3 ++ dktX0_look_4
def dkwX0_look_2 : List UInt8 := [163, 0, 45, 42, 21, 4, 27, 21, 7, 182, 1, 15, 54, 8, 21, 8, 21, 6, 162, 0, 8, 21, 7]
abbrev dktX0_look_2 : List UInt8 := dkwX0_look_2 ++ dktX0_look_3
def dkwX0_look_1 : List UInt8 := [54, 4, 21, 4, 154, 0, 6, 16, 247, 172, 3, 54, 5, 18, 249, 54, 6, 4, 54, 7, 21, 7, 16, 20]
abbrev dktX0_look_1 : List UInt8 := dkwX0_look_1 ++ dktX0_look_2
def dkwX0_look_0 : List UInt8 := [42, 27, 28, 182, 1, 8, 62, 29, 156, 0, 5, 29, 172, 42, 27, 42, 180, 0, 25, 28, 50, 182, 1, 11]
abbrev dktX0_look_0 : List UInt8 := dkwX0_look_0 ++ dktX0_look_1
theorem dksX0_look_0 : cX0_look.data.toList.drop 0 = dktX0_look_0 := by decide +kernel
theorem dksX0_look_1 : cX0_look.data.toList.drop 24 = dktX0_look_1 := dk_seg dksX0_look_0 24 rfl rfl
theorem dksX0_look_2 : cX0_look.data.toList.drop 48 = dktX0_look_2 := dk_seg dksX0_look_1 24 rfl rfl
theorem dksX0_look_3 : cX0_look.data.toList.drop 71 = dktX0_look_3 := dk_seg dksX0_look_2 23 rfl rfl
theorem dksX0_look_4 : cX0_look.data.toList.drop 94 = dktX0_look_4 := dk_seg dksX0_look_3 23 rfl rfl
theorem dX0_look_0 : decode cX0_look 0 = .ok (.aload_n 0, 1) := dk_42 (dk_at dksX0_look_0 0 rfl rfl)
theorem dX0_look_1 : decode cX0_look 1 = .ok (.iload_n 1, 1) := dk_27 (dk_at dksX0_look_0 1 rfl rfl)
theorem dX0_look_2 : decode cX0_look 2 = .ok (.iload_n 2, 1) := dk_28 (dk_at dksX0_look_0 2 rfl rfl)
theorem dX0_look_3 : decode cX0_look 3 = .ok (.invokevirtual 264, 3) := dk_182 1 8 (dk_at dksX0_look_0 3 rfl rfl)
theorem dX0_look_6 : decode cX0_look 6 = .ok (.istore_n 3, 1) := dk_62 (dk_at dksX0_look_0 6 rfl rfl)
theorem dX0_look_7 : decode cX0_look 7 = .ok (.iload_n 3, 1) := dk_29 (dk_at dksX0_look_0 7 rfl rfl)
theorem dX0_look_8 : decode cX0_look 8 = .ok (.ifCond .ge 5, 3) := dk_156 0 5 (dk_at dksX0_look_0 8 rfl rfl)
theorem dX0_look_11 : decode cX0_look 11 = .ok (.iload_n 3, 1) := dk_29 (dk_at dksX0_look_0 11 rfl rfl)
theorem dX0_look_12 : decode cX0_look 12 = .ok (.ireturn, 1) := dk_172 (dk_at dksX0_look_0 12 rfl rfl)
theorem dX0_look_13 : decode cX0_look 13 = .ok (.aload_n 0, 1) := dk_42 (dk_at dksX0_look_0 13 rfl rfl)
theorem dX0_look_14 : decode cX0_look 14 = .ok (.iload_n 1, 1) := dk_27 (dk_at dksX0_look_0 14 rfl rfl)
theorem dX0_look_15 : decode cX0_look 15 = .ok (.aload_n 0, 1) := dk_42 (dk_at dksX0_look_0 15 rfl rfl)
theorem dX0_look_16 : decode cX0_look 16 = .ok (.getfield 25, 3) := dk_180 0 25 (dk_at dksX0_look_0 16 rfl rfl)
theorem dX0_look_19 : decode cX0_look 19 = .ok (.iload_n 2, 1) := dk_28 (dk_at dksX0_look_0 19 rfl rfl)
theorem dX0_look_20 : decode cX0_look 20 = .ok (.aaload, 1) := dk_50 (dk_at dksX0_look_0 20 rfl rfl)
theorem dX0_look_21 : decode cX0_look 21 = .ok (.invokevirtual 267, 3) := dk_182 1 11 (dk_at dksX0_look_0 21 rfl rfl)
theorem dX0_look_24 : decode cX0_look 24 = .ok (.istore 4, 2) := dk_54 4 (dk_at dksX0_look_1 0 rfl rfl)
theorem dX0_look_26 : decode cX0_look 26 = .ok (.iload 4, 2) := dk_21 4 (dk_at dksX0_look_1 2 rfl rfl)
theorem dX0_look_28 : decode cX0_look 28 = .ok (.ifCond .ne 6, 3) := dk_154 0 6 (dk_at dksX0_look_1 4 rfl rfl)
theorem dX0_look_31 : decode cX0_look 31 = .ok (.bipush (-9), 2) := dk_16 247 (dk_at dksX0_look_1 7 rfl rfl)
theorem dX0_look_33 : decode cX0_look 33 = .ok (.ireturn, 1) := dk_172 (dk_at dksX0_look_1 9 rfl rfl)
theorem dX0_look_34 : decode cX0_look 34 = .ok (.iconst 0, 1) := dk_3 (dk_at dksX0_look_1 10 rfl rfl)
theorem dX0_look_35 : decode cX0_look 35 = .ok (.istore 5, 2) := dk_54 5 (dk_at dksX0_look_1 11 rfl rfl)
theorem dX0_look_37 : decode cX0_look 37 = .ok (.ldc 249, 2) := dk_18 249 (dk_at dksX0_look_1 13 rfl rfl)
theorem dX0_look_39 : decode cX0_look 39 = .ok (.istore 6, 2) := dk_54 6 (dk_at dksX0_look_1 15 rfl rfl)
theorem dX0_look_41 : decode cX0_look 41 = .ok (.iconst 1, 1) := dk_4 (dk_at dksX0_look_1 17 rfl rfl)
theorem dX0_look_42 : decode cX0_look 42 = .ok (.istore 7, 2) := dk_54 7 (dk_at dksX0_look_1 18 rfl rfl)
theorem dX0_look_44 : decode cX0_look 44 = .ok (.iload 7, 2) := dk_21 7 (dk_at dksX0_look_1 20 rfl rfl)
theorem dX0_look_46 : decode cX0_look 46 = .ok (.bipush 20, 2) := dk_16 20 (dk_at dksX0_look_1 22 rfl rfl)
theorem dX0_look_48 : decode cX0_look 48 = .ok (.if_icmp .gt 45, 3) := dk_163 0 45 (dk_at dksX0_look_2 0 rfl rfl)
theorem dX0_look_51 : decode cX0_look 51 = .ok (.aload_n 0, 1) := dk_42 (dk_at dksX0_look_2 3 rfl rfl)
theorem dX0_look_52 : decode cX0_look 52 = .ok (.iload 4, 2) := dk_21 4 (dk_at dksX0_look_2 4 rfl rfl)
theorem dX0_look_54 : decode cX0_look 54 = .ok (.iload_n 1, 1) := dk_27 (dk_at dksX0_look_2 6 rfl rfl)
theorem dX0_look_55 : decode cX0_look 55 = .ok (.iload 7, 2) := dk_21 7 (dk_at dksX0_look_2 7 rfl rfl)
theorem dX0_look_57 : decode cX0_look 57 = .ok (.invokevirtual 271, 3) := dk_182 1 15 (dk_at dksX0_look_2 9 rfl rfl)
theorem dX0_look_60 : decode cX0_look 60 = .ok (.istore 8, 2) := dk_54 8 (dk_at dksX0_look_2 12 rfl rfl)
theorem dX0_look_62 : decode cX0_look 62 = .ok (.iload 8, 2) := dk_21 8 (dk_at dksX0_look_2 14 rfl rfl)
theorem dX0_look_64 : decode cX0_look 64 = .ok (.iload 6, 2) := dk_21 6 (dk_at dksX0_look_2 16 rfl rfl)
theorem dX0_look_66 : decode cX0_look 66 = .ok (.if_icmp .ge 8, 3) := dk_162 0 8 (dk_at dksX0_look_2 18 rfl rfl)
theorem dX0_look_69 : decode cX0_look 69 = .ok (.iload 7, 2) := dk_21 7 (dk_at dksX0_look_2 21 rfl rfl)
theorem dX0_look_71 : decode cX0_look 71 = .ok (.goto 5, 3) := dk_167 0 5 (dk_at dksX0_look_3 0 rfl rfl)
theorem dX0_look_74 : decode cX0_look 74 = .ok (.iload 5, 2) := dk_21 5 (dk_at dksX0_look_3 3 rfl rfl)
theorem dX0_look_76 : decode cX0_look 76 = .ok (.istore 5, 2) := dk_54 5 (dk_at dksX0_look_3 5 rfl rfl)
theorem dX0_look_78 : decode cX0_look 78 = .ok (.iload 6, 2) := dk_21 6 (dk_at dksX0_look_3 7 rfl rfl)
theorem dX0_look_80 : decode cX0_look 80 = .ok (.iload 8, 2) := dk_21 8 (dk_at dksX0_look_3 9 rfl rfl)
theorem dX0_look_82 : decode cX0_look 82 = .ok (.invokestatic 274, 3) := dk_184 1 18 (dk_at dksX0_look_3 11 rfl rfl)
theorem dX0_look_85 : decode cX0_look 85 = .ok (.istore 6, 2) := dk_54 6 (dk_at dksX0_look_3 14 rfl rfl)
theorem dX0_look_87 : decode cX0_look 87 = .ok (.iinc 7 1, 3) := dk_132 7 1 (dk_at dksX0_look_3 16 rfl rfl)
theorem dX0_look_90 : decode cX0_look 90 = .ok (.goto (-46), 3) := dk_167 255 210 (dk_at dksX0_look_3 19 rfl rfl)
theorem dX0_look_93 : decode cX0_look 93 = .ok (.aload_n 0, 1) := dk_42 (dk_at dksX0_look_3 22 rfl rfl)
theorem dX0_look_94 : decode cX0_look 94 = .ok (.iload 6, 2) := dk_21 6 (dk_at dksX0_look_4 0 rfl rfl)
theorem dX0_look_96 : decode cX0_look 96 = .ok (.iload 5, 2) := dk_21 5 (dk_at dksX0_look_4 2 rfl rfl)
theorem dX0_look_98 : decode cX0_look 98 = .ok (.invokevirtual 79, 3) := dk_182 0 79 (dk_at dksX0_look_4 4 rfl rfl)
theorem dX0_look_101 : decode cX0_look 101 = .ok (.ireturn, 1) := dk_172 (dk_at dksX0_look_4 7 rfl rfl)
abbrev cX0_alike : ByteArray := prog_1_method_68_code
def yX0_alike : MethodName := ⟨RX0, "alike", "(III)I"⟩
def dkwX0_alike_4 : List UInt8 := [21, 4, 42, 180, 0, 59, 21, 5, 46, 184, 0, 159, 54, 4, 132, 5, 1, 167, 255, 232, 21, 4, 172]
abbrev dktX0_alike_4 : List UInt8 := dkwX0_alike_4 ++ []
def dkwX0_alike_3 : List UInt8 := [46, 4, 96, 79, 132, 4, 1, 167, 255, 204, 3, 54, 4, 3, 54, 5, 21, 5, 16, 6, 163, 0, 23]
abbrev dktX0_alike_3 : List UInt8 := dkwX0_alike_3 ++ dktX0_alike_4
def dkwX0_alike_2 : List UInt8 := [182, 0, 246, 54, 5, 42, 180, 0, 59, 21, 5, 16, 247, 160, 0, 8, 16, 6, 167, 0, 5, 21, 5, 92]
abbrev dktX0_alike_2 : List UInt8 := dkwX0_alike_2 ++ dktX0_alike_3
def dkwX0_alike_1 : List UInt8 := [3, 54, 4, 21, 4, 16, 20, 163, 0, 51, 27, 21, 4, 184, 0, 141, 153, 0, 36, 42, 28, 21, 4, 29]
abbrev dktX0_alike_1 : List UInt8 := dkwX0_alike_1 ++ dktX0_alike_2
def dkwX0_alike_0 : List UInt8 := [3, 54, 4, 21, 4, 16, 6, 163, 0, 17, 42, 180, 0, 59, 21, 4, 3, 79, 132, 4, 1, 167, 255, 238]
abbrev dktX0_alike_0 : List UInt8 := dkwX0_alike_0 ++ dktX0_alike_1
theorem dksX0_alike_0 : cX0_alike.data.toList.drop 0 = dktX0_alike_0 := by decide +kernel
theorem dksX0_alike_1 : cX0_alike.data.toList.drop 24 = dktX0_alike_1 := dk_seg dksX0_alike_0 24 rfl rfl
theorem dksX0_alike_2 : cX0_alike.data.toList.drop 48 = dktX0_alike_2 := dk_seg dksX0_alike_1 24 rfl rfl
theorem dksX0_alike_3 : cX0_alike.data.toList.drop 72 = dktX0_alike_3 := dk_seg dksX0_alike_2 24 rfl rfl
theorem dksX0_alike_4 : cX0_alike.data.toList.drop 95 = dktX0_alike_4 := dk_seg dksX0_alike_3 23 rfl rfl
theorem dX0_alike_0 : decode cX0_alike 0 = .ok (.iconst 0, 1) := dk_3 (dk_at dksX0_alike_0 0 rfl rfl)
theorem dX0_alike_1 : decode cX0_alike 1 = .ok (.istore 4, 2) := dk_54 4 (dk_at dksX0_alike_0 1 rfl rfl)
theorem dX0_alike_3 : decode cX0_alike 3 = .ok (.iload 4, 2) := dk_21 4 (dk_at dksX0_alike_0 3 rfl rfl)
theorem dX0_alike_5 : decode cX0_alike 5 = .ok (.bipush 6, 2) := dk_16 6 (dk_at dksX0_alike_0 5 rfl rfl)
theorem dX0_alike_7 : decode cX0_alike 7 = .ok (.if_icmp .gt 17, 3) := dk_163 0 17 (dk_at dksX0_alike_0 7 rfl rfl)
theorem dX0_alike_10 : decode cX0_alike 10 = .ok (.aload_n 0, 1) := dk_42 (dk_at dksX0_alike_0 10 rfl rfl)
theorem dX0_alike_11 : decode cX0_alike 11 = .ok (.getfield 59, 3) := dk_180 0 59 (dk_at dksX0_alike_0 11 rfl rfl)
theorem dX0_alike_14 : decode cX0_alike 14 = .ok (.iload 4, 2) := dk_21 4 (dk_at dksX0_alike_0 14 rfl rfl)
theorem dX0_alike_16 : decode cX0_alike 16 = .ok (.iconst 0, 1) := dk_3 (dk_at dksX0_alike_0 16 rfl rfl)
theorem dX0_alike_17 : decode cX0_alike 17 = .ok (.iastore, 1) := dk_79 (dk_at dksX0_alike_0 17 rfl rfl)
theorem dX0_alike_18 : decode cX0_alike 18 = .ok (.iinc 4 1, 3) := dk_132 4 1 (dk_at dksX0_alike_0 18 rfl rfl)
theorem dX0_alike_21 : decode cX0_alike 21 = .ok (.goto (-18), 3) := dk_167 255 238 (dk_at dksX0_alike_0 21 rfl rfl)
theorem dX0_alike_24 : decode cX0_alike 24 = .ok (.iconst 0, 1) := dk_3 (dk_at dksX0_alike_1 0 rfl rfl)
theorem dX0_alike_25 : decode cX0_alike 25 = .ok (.istore 4, 2) := dk_54 4 (dk_at dksX0_alike_1 1 rfl rfl)
theorem dX0_alike_27 : decode cX0_alike 27 = .ok (.iload 4, 2) := dk_21 4 (dk_at dksX0_alike_1 3 rfl rfl)
theorem dX0_alike_29 : decode cX0_alike 29 = .ok (.bipush 20, 2) := dk_16 20 (dk_at dksX0_alike_1 5 rfl rfl)
theorem dX0_alike_31 : decode cX0_alike 31 = .ok (.if_icmp .gt 51, 3) := dk_163 0 51 (dk_at dksX0_alike_1 7 rfl rfl)
theorem dX0_alike_34 : decode cX0_alike 34 = .ok (.iload_n 1, 1) := dk_27 (dk_at dksX0_alike_1 10 rfl rfl)
theorem dX0_alike_35 : decode cX0_alike 35 = .ok (.iload 4, 2) := dk_21 4 (dk_at dksX0_alike_1 11 rfl rfl)
theorem dX0_alike_37 : decode cX0_alike 37 = .ok (.invokestatic 141, 3) := dk_184 0 141 (dk_at dksX0_alike_1 13 rfl rfl)
theorem dX0_alike_40 : decode cX0_alike 40 = .ok (.ifCond .eq 36, 3) := dk_153 0 36 (dk_at dksX0_alike_1 16 rfl rfl)
theorem dX0_alike_43 : decode cX0_alike 43 = .ok (.aload_n 0, 1) := dk_42 (dk_at dksX0_alike_1 19 rfl rfl)
theorem dX0_alike_44 : decode cX0_alike 44 = .ok (.iload_n 2, 1) := dk_28 (dk_at dksX0_alike_1 20 rfl rfl)
theorem dX0_alike_45 : decode cX0_alike 45 = .ok (.iload 4, 2) := dk_21 4 (dk_at dksX0_alike_1 21 rfl rfl)
theorem dX0_alike_47 : decode cX0_alike 47 = .ok (.iload_n 3, 1) := dk_29 (dk_at dksX0_alike_1 23 rfl rfl)
theorem dX0_alike_48 : decode cX0_alike 48 = .ok (.invokevirtual 246, 3) := dk_182 0 246 (dk_at dksX0_alike_2 0 rfl rfl)
theorem dX0_alike_51 : decode cX0_alike 51 = .ok (.istore 5, 2) := dk_54 5 (dk_at dksX0_alike_2 3 rfl rfl)
theorem dX0_alike_53 : decode cX0_alike 53 = .ok (.aload_n 0, 1) := dk_42 (dk_at dksX0_alike_2 5 rfl rfl)
theorem dX0_alike_54 : decode cX0_alike 54 = .ok (.getfield 59, 3) := dk_180 0 59 (dk_at dksX0_alike_2 6 rfl rfl)
theorem dX0_alike_57 : decode cX0_alike 57 = .ok (.iload 5, 2) := dk_21 5 (dk_at dksX0_alike_2 9 rfl rfl)
theorem dX0_alike_59 : decode cX0_alike 59 = .ok (.bipush (-9), 2) := dk_16 247 (dk_at dksX0_alike_2 11 rfl rfl)
theorem dX0_alike_61 : decode cX0_alike 61 = .ok (.if_icmp .ne 8, 3) := dk_160 0 8 (dk_at dksX0_alike_2 13 rfl rfl)
theorem dX0_alike_64 : decode cX0_alike 64 = .ok (.bipush 6, 2) := dk_16 6 (dk_at dksX0_alike_2 16 rfl rfl)
theorem dX0_alike_66 : decode cX0_alike 66 = .ok (.goto 5, 3) := dk_167 0 5 (dk_at dksX0_alike_2 18 rfl rfl)
theorem dX0_alike_69 : decode cX0_alike 69 = .ok (.iload 5, 2) := dk_21 5 (dk_at dksX0_alike_2 21 rfl rfl)
theorem dX0_alike_71 : decode cX0_alike 71 = .ok (.dup2, 1) := dk_92 (dk_at dksX0_alike_2 23 rfl rfl)
theorem dX0_alike_72 : decode cX0_alike 72 = .ok (.iaload, 1) := dk_46 (dk_at dksX0_alike_3 0 rfl rfl)
theorem dX0_alike_73 : decode cX0_alike 73 = .ok (.iconst 1, 1) := dk_4 (dk_at dksX0_alike_3 1 rfl rfl)
theorem dX0_alike_74 : decode cX0_alike 74 = .ok (.iadd, 1) := dk_96 (dk_at dksX0_alike_3 2 rfl rfl)
theorem dX0_alike_75 : decode cX0_alike 75 = .ok (.iastore, 1) := dk_79 (dk_at dksX0_alike_3 3 rfl rfl)
theorem dX0_alike_76 : decode cX0_alike 76 = .ok (.iinc 4 1, 3) := dk_132 4 1 (dk_at dksX0_alike_3 4 rfl rfl)
theorem dX0_alike_79 : decode cX0_alike 79 = .ok (.goto (-52), 3) := dk_167 255 204 (dk_at dksX0_alike_3 7 rfl rfl)
theorem dX0_alike_82 : decode cX0_alike 82 = .ok (.iconst 0, 1) := dk_3 (dk_at dksX0_alike_3 10 rfl rfl)
theorem dX0_alike_83 : decode cX0_alike 83 = .ok (.istore 4, 2) := dk_54 4 (dk_at dksX0_alike_3 11 rfl rfl)
theorem dX0_alike_85 : decode cX0_alike 85 = .ok (.iconst 0, 1) := dk_3 (dk_at dksX0_alike_3 13 rfl rfl)
theorem dX0_alike_86 : decode cX0_alike 86 = .ok (.istore 5, 2) := dk_54 5 (dk_at dksX0_alike_3 14 rfl rfl)
theorem dX0_alike_88 : decode cX0_alike 88 = .ok (.iload 5, 2) := dk_21 5 (dk_at dksX0_alike_3 16 rfl rfl)
theorem dX0_alike_90 : decode cX0_alike 90 = .ok (.bipush 6, 2) := dk_16 6 (dk_at dksX0_alike_3 18 rfl rfl)
theorem dX0_alike_92 : decode cX0_alike 92 = .ok (.if_icmp .gt 23, 3) := dk_163 0 23 (dk_at dksX0_alike_3 20 rfl rfl)
theorem dX0_alike_95 : decode cX0_alike 95 = .ok (.iload 4, 2) := dk_21 4 (dk_at dksX0_alike_4 0 rfl rfl)
theorem dX0_alike_97 : decode cX0_alike 97 = .ok (.aload_n 0, 1) := dk_42 (dk_at dksX0_alike_4 2 rfl rfl)
theorem dX0_alike_98 : decode cX0_alike 98 = .ok (.getfield 59, 3) := dk_180 0 59 (dk_at dksX0_alike_4 3 rfl rfl)
theorem dX0_alike_101 : decode cX0_alike 101 = .ok (.iload 5, 2) := dk_21 5 (dk_at dksX0_alike_4 6 rfl rfl)
theorem dX0_alike_103 : decode cX0_alike 103 = .ok (.iaload, 1) := dk_46 (dk_at dksX0_alike_4 8 rfl rfl)
theorem dX0_alike_104 : decode cX0_alike 104 = .ok (.invokestatic 159, 3) := dk_184 0 159 (dk_at dksX0_alike_4 9 rfl rfl)
theorem dX0_alike_107 : decode cX0_alike 107 = .ok (.istore 4, 2) := dk_54 4 (dk_at dksX0_alike_4 12 rfl rfl)
theorem dX0_alike_109 : decode cX0_alike 109 = .ok (.iinc 5 1, 3) := dk_132 5 1 (dk_at dksX0_alike_4 14 rfl rfl)
theorem dX0_alike_112 : decode cX0_alike 112 = .ok (.goto (-24), 3) := dk_167 255 232 (dk_at dksX0_alike_4 17 rfl rfl)
theorem dX0_alike_115 : decode cX0_alike 115 = .ok (.iload 4, 2) := dk_21 4 (dk_at dksX0_alike_4 20 rfl rfl)
theorem dX0_alike_117 : decode cX0_alike 117 = .ok (.ireturn, 1) := dk_172 (dk_at dksX0_alike_4 22 rfl rfl)
abbrev cX0_sets : ByteArray := prog_1_method_72_code
def yX0_sets : MethodName := ⟨RX0, "sets", "(I)I"⟩
def dkwX0_sets_1 : List UInt8 := [42, 180, 1, 21, 133, 10, 182, 1, 40, 87, 42, 42, 180, 1, 24, 4, 182, 0, 79, 172]
abbrev dktX0_sets_1 : List UInt8 := dkwX0_sets_1 ++ []
def dkwX0_sets_0 : List UInt8 := [42, 27, 3, 16, 120, 184, 0, 65, 182, 0, 238, 61, 28, 156, 0, 5, 28, 172, 42, 27, 182, 1, 36, 42]
abbrev dktX0_sets_0 : List UInt8 := dkwX0_sets_0 ++ dktX0_sets_1
theorem dksX0_sets_0 : cX0_sets.data.toList.drop 0 = dktX0_sets_0 := by decide +kernel
theorem dksX0_sets_1 : cX0_sets.data.toList.drop 24 = dktX0_sets_1 := dk_seg dksX0_sets_0 24 rfl rfl
theorem dX0_sets_0 : decode cX0_sets 0 = .ok (.aload_n 0, 1) := dk_42 (dk_at dksX0_sets_0 0 rfl rfl)
theorem dX0_sets_1 : decode cX0_sets 1 = .ok (.iload_n 1, 1) := dk_27 (dk_at dksX0_sets_0 1 rfl rfl)
theorem dX0_sets_2 : decode cX0_sets 2 = .ok (.iconst 0, 1) := dk_3 (dk_at dksX0_sets_0 2 rfl rfl)
theorem dX0_sets_3 : decode cX0_sets 3 = .ok (.bipush 120, 2) := dk_16 120 (dk_at dksX0_sets_0 3 rfl rfl)
theorem dX0_sets_5 : decode cX0_sets 5 = .ok (.invokestatic 65, 3) := dk_184 0 65 (dk_at dksX0_sets_0 5 rfl rfl)
theorem dX0_sets_8 : decode cX0_sets 8 = .ok (.invokevirtual 238, 3) := dk_182 0 238 (dk_at dksX0_sets_0 8 rfl rfl)
theorem dX0_sets_11 : decode cX0_sets 11 = .ok (.istore_n 2, 1) := dk_61 (dk_at dksX0_sets_0 11 rfl rfl)
theorem dX0_sets_12 : decode cX0_sets 12 = .ok (.iload_n 2, 1) := dk_28 (dk_at dksX0_sets_0 12 rfl rfl)
theorem dX0_sets_13 : decode cX0_sets 13 = .ok (.ifCond .ge 5, 3) := dk_156 0 5 (dk_at dksX0_sets_0 13 rfl rfl)
theorem dX0_sets_16 : decode cX0_sets 16 = .ok (.iload_n 2, 1) := dk_28 (dk_at dksX0_sets_0 16 rfl rfl)
theorem dX0_sets_17 : decode cX0_sets 17 = .ok (.ireturn, 1) := dk_172 (dk_at dksX0_sets_0 17 rfl rfl)
theorem dX0_sets_18 : decode cX0_sets 18 = .ok (.aload_n 0, 1) := dk_42 (dk_at dksX0_sets_0 18 rfl rfl)
theorem dX0_sets_19 : decode cX0_sets 19 = .ok (.iload_n 1, 1) := dk_27 (dk_at dksX0_sets_0 19 rfl rfl)
theorem dX0_sets_20 : decode cX0_sets 20 = .ok (.invokevirtual 292, 3) := dk_182 1 36 (dk_at dksX0_sets_0 20 rfl rfl)
theorem dX0_sets_23 : decode cX0_sets 23 = .ok (.aload_n 0, 1) := dk_42 (dk_at dksX0_sets_0 23 rfl rfl)
theorem dX0_sets_24 : decode cX0_sets 24 = .ok (.aload_n 0, 1) := dk_42 (dk_at dksX0_sets_1 0 rfl rfl)
theorem dX0_sets_25 : decode cX0_sets 25 = .ok (.getfield 277, 3) := dk_180 1 21 (dk_at dksX0_sets_1 1 rfl rfl)
theorem dX0_sets_28 : decode cX0_sets 28 = .ok (.i2l, 1) := dk_133 (dk_at dksX0_sets_1 4 rfl rfl)
theorem dX0_sets_29 : decode cX0_sets 29 = .ok (.lconst 1, 1) := dk_10 (dk_at dksX0_sets_1 5 rfl rfl)
theorem dX0_sets_30 : decode cX0_sets 30 = .ok (.invokevirtual 296, 3) := dk_182 1 40 (dk_at dksX0_sets_1 6 rfl rfl)
theorem dX0_sets_33 : decode cX0_sets 33 = .ok (.pop, 1) := dk_87 (dk_at dksX0_sets_1 9 rfl rfl)
theorem dX0_sets_34 : decode cX0_sets 34 = .ok (.aload_n 0, 1) := dk_42 (dk_at dksX0_sets_1 10 rfl rfl)
theorem dX0_sets_35 : decode cX0_sets 35 = .ok (.aload_n 0, 1) := dk_42 (dk_at dksX0_sets_1 11 rfl rfl)
theorem dX0_sets_36 : decode cX0_sets 36 = .ok (.getfield 280, 3) := dk_180 1 24 (dk_at dksX0_sets_1 12 rfl rfl)
theorem dX0_sets_39 : decode cX0_sets 39 = .ok (.iconst 1, 1) := dk_4 (dk_at dksX0_sets_1 15 rfl rfl)
theorem dX0_sets_40 : decode cX0_sets 40 = .ok (.invokevirtual 79, 3) := dk_182 0 79 (dk_at dksX0_sets_1 16 rfl rfl)
theorem dX0_sets_43 : decode cX0_sets 43 = .ok (.ireturn, 1) := dk_172 (dk_at dksX0_sets_1 19 rfl rfl)
abbrev cX0_laySets : ByteArray := prog_1_method_71_code
def yX0_laySets : MethodName := ⟨RX0, "laySets", "(I)V"⟩
def dkwX0_laySets_4 : List UInt8 := [128, 181, 1, 30, 132, 2, 1, 167, 255, 185, 177]
abbrev dktX0_laySets_4 : List UInt8 := dkwX0_laySets_4 ++ []
def dkwX0_laySets_3 : List UInt8 := [180, 1, 21, 4, 96, 181, 1, 21, 42, 89, 180, 1, 27, 28, 126, 181, 1, 27, 42, 89, 180, 1, 30, 28]
abbrev dktX0_laySets_3 : List UInt8 := dkwX0_laySets_3 ++ dktX0_laySets_4
def dkwX0_laySets_2 : List UInt8 := [160, 0, 52, 42, 42, 180, 1, 21, 154, 0, 7, 28, 167, 0, 7, 42, 180, 1, 24, 181, 1, 24, 42, 89]
abbrev dktX0_laySets_2 : List UInt8 := dkwX0_laySets_2 ++ dktX0_laySets_3
def dkwX0_laySets_1 : List UInt8 := [3, 181, 1, 30, 3, 61, 28, 4, 42, 180, 0, 116, 120, 162, 0, 67, 42, 28, 182, 1, 33, 27]
abbrev dktX0_laySets_1 : List UInt8 := dkwX0_laySets_1 ++ dktX0_laySets_2
def dkwX0_laySets_0 : List UInt8 := [42, 3, 181, 1, 21, 42, 16, 247, 181, 1, 24, 42, 4, 42, 180, 0, 116, 120, 4, 100, 181, 1, 27, 42]
abbrev dktX0_laySets_0 : List UInt8 := dkwX0_laySets_0 ++ dktX0_laySets_1
theorem dksX0_laySets_0 : cX0_laySets.data.toList.drop 0 = dktX0_laySets_0 := by decide +kernel
theorem dksX0_laySets_1 : cX0_laySets.data.toList.drop 24 = dktX0_laySets_1 := dk_seg dksX0_laySets_0 24 rfl rfl
theorem dksX0_laySets_2 : cX0_laySets.data.toList.drop 46 = dktX0_laySets_2 := dk_seg dksX0_laySets_1 22 rfl rfl
theorem dksX0_laySets_3 : cX0_laySets.data.toList.drop 70 = dktX0_laySets_3 := dk_seg dksX0_laySets_2 24 rfl rfl
theorem dksX0_laySets_4 : cX0_laySets.data.toList.drop 94 = dktX0_laySets_4 := dk_seg dksX0_laySets_3 24 rfl rfl
theorem dX0_laySets_0 : decode cX0_laySets 0 = .ok (.aload_n 0, 1) := dk_42 (dk_at dksX0_laySets_0 0 rfl rfl)
theorem dX0_laySets_1 : decode cX0_laySets 1 = .ok (.iconst 0, 1) := dk_3 (dk_at dksX0_laySets_0 1 rfl rfl)
theorem dX0_laySets_2 : decode cX0_laySets 2 = .ok (.putfield 277, 3) := dk_181 1 21 (dk_at dksX0_laySets_0 2 rfl rfl)
theorem dX0_laySets_5 : decode cX0_laySets 5 = .ok (.aload_n 0, 1) := dk_42 (dk_at dksX0_laySets_0 5 rfl rfl)
theorem dX0_laySets_6 : decode cX0_laySets 6 = .ok (.bipush (-9), 2) := dk_16 247 (dk_at dksX0_laySets_0 6 rfl rfl)
theorem dX0_laySets_8 : decode cX0_laySets 8 = .ok (.putfield 280, 3) := dk_181 1 24 (dk_at dksX0_laySets_0 8 rfl rfl)
theorem dX0_laySets_11 : decode cX0_laySets 11 = .ok (.aload_n 0, 1) := dk_42 (dk_at dksX0_laySets_0 11 rfl rfl)
theorem dX0_laySets_12 : decode cX0_laySets 12 = .ok (.iconst 1, 1) := dk_4 (dk_at dksX0_laySets_0 12 rfl rfl)
theorem dX0_laySets_13 : decode cX0_laySets 13 = .ok (.aload_n 0, 1) := dk_42 (dk_at dksX0_laySets_0 13 rfl rfl)
theorem dX0_laySets_14 : decode cX0_laySets 14 = .ok (.getfield 116, 3) := dk_180 0 116 (dk_at dksX0_laySets_0 14 rfl rfl)
theorem dX0_laySets_17 : decode cX0_laySets 17 = .ok (.ishl, 1) := dk_120 (dk_at dksX0_laySets_0 17 rfl rfl)
theorem dX0_laySets_18 : decode cX0_laySets 18 = .ok (.iconst 1, 1) := dk_4 (dk_at dksX0_laySets_0 18 rfl rfl)
theorem dX0_laySets_19 : decode cX0_laySets 19 = .ok (.isub, 1) := dk_100 (dk_at dksX0_laySets_0 19 rfl rfl)
theorem dX0_laySets_20 : decode cX0_laySets 20 = .ok (.putfield 283, 3) := dk_181 1 27 (dk_at dksX0_laySets_0 20 rfl rfl)
theorem dX0_laySets_23 : decode cX0_laySets 23 = .ok (.aload_n 0, 1) := dk_42 (dk_at dksX0_laySets_0 23 rfl rfl)
theorem dX0_laySets_24 : decode cX0_laySets 24 = .ok (.iconst 0, 1) := dk_3 (dk_at dksX0_laySets_1 0 rfl rfl)
theorem dX0_laySets_25 : decode cX0_laySets 25 = .ok (.putfield 286, 3) := dk_181 1 30 (dk_at dksX0_laySets_1 1 rfl rfl)
theorem dX0_laySets_28 : decode cX0_laySets 28 = .ok (.iconst 0, 1) := dk_3 (dk_at dksX0_laySets_1 4 rfl rfl)
theorem dX0_laySets_29 : decode cX0_laySets 29 = .ok (.istore_n 2, 1) := dk_61 (dk_at dksX0_laySets_1 5 rfl rfl)
theorem dX0_laySets_30 : decode cX0_laySets 30 = .ok (.iload_n 2, 1) := dk_28 (dk_at dksX0_laySets_1 6 rfl rfl)
theorem dX0_laySets_31 : decode cX0_laySets 31 = .ok (.iconst 1, 1) := dk_4 (dk_at dksX0_laySets_1 7 rfl rfl)
theorem dX0_laySets_32 : decode cX0_laySets 32 = .ok (.aload_n 0, 1) := dk_42 (dk_at dksX0_laySets_1 8 rfl rfl)
theorem dX0_laySets_33 : decode cX0_laySets 33 = .ok (.getfield 116, 3) := dk_180 0 116 (dk_at dksX0_laySets_1 9 rfl rfl)
theorem dX0_laySets_36 : decode cX0_laySets 36 = .ok (.ishl, 1) := dk_120 (dk_at dksX0_laySets_1 12 rfl rfl)
theorem dX0_laySets_37 : decode cX0_laySets 37 = .ok (.if_icmp .ge 67, 3) := dk_162 0 67 (dk_at dksX0_laySets_1 13 rfl rfl)
theorem dX0_laySets_40 : decode cX0_laySets 40 = .ok (.aload_n 0, 1) := dk_42 (dk_at dksX0_laySets_1 16 rfl rfl)
theorem dX0_laySets_41 : decode cX0_laySets 41 = .ok (.iload_n 2, 1) := dk_28 (dk_at dksX0_laySets_1 17 rfl rfl)
theorem dX0_laySets_42 : decode cX0_laySets 42 = .ok (.invokevirtual 289, 3) := dk_182 1 33 (dk_at dksX0_laySets_1 18 rfl rfl)
theorem dX0_laySets_45 : decode cX0_laySets 45 = .ok (.iload_n 1, 1) := dk_27 (dk_at dksX0_laySets_1 21 rfl rfl)
theorem dX0_laySets_46 : decode cX0_laySets 46 = .ok (.if_icmp .ne 52, 3) := dk_160 0 52 (dk_at dksX0_laySets_2 0 rfl rfl)
theorem dX0_laySets_49 : decode cX0_laySets 49 = .ok (.aload_n 0, 1) := dk_42 (dk_at dksX0_laySets_2 3 rfl rfl)
theorem dX0_laySets_50 : decode cX0_laySets 50 = .ok (.aload_n 0, 1) := dk_42 (dk_at dksX0_laySets_2 4 rfl rfl)
theorem dX0_laySets_51 : decode cX0_laySets 51 = .ok (.getfield 277, 3) := dk_180 1 21 (dk_at dksX0_laySets_2 5 rfl rfl)
theorem dX0_laySets_54 : decode cX0_laySets 54 = .ok (.ifCond .ne 7, 3) := dk_154 0 7 (dk_at dksX0_laySets_2 8 rfl rfl)
theorem dX0_laySets_57 : decode cX0_laySets 57 = .ok (.iload_n 2, 1) := dk_28 (dk_at dksX0_laySets_2 11 rfl rfl)
theorem dX0_laySets_58 : decode cX0_laySets 58 = .ok (.goto 7, 3) := dk_167 0 7 (dk_at dksX0_laySets_2 12 rfl rfl)
theorem dX0_laySets_61 : decode cX0_laySets 61 = .ok (.aload_n 0, 1) := dk_42 (dk_at dksX0_laySets_2 15 rfl rfl)
theorem dX0_laySets_62 : decode cX0_laySets 62 = .ok (.getfield 280, 3) := dk_180 1 24 (dk_at dksX0_laySets_2 16 rfl rfl)
theorem dX0_laySets_65 : decode cX0_laySets 65 = .ok (.putfield 280, 3) := dk_181 1 24 (dk_at dksX0_laySets_2 19 rfl rfl)
theorem dX0_laySets_68 : decode cX0_laySets 68 = .ok (.aload_n 0, 1) := dk_42 (dk_at dksX0_laySets_2 22 rfl rfl)
theorem dX0_laySets_69 : decode cX0_laySets 69 = .ok (.dup, 1) := dk_89 (dk_at dksX0_laySets_2 23 rfl rfl)
theorem dX0_laySets_70 : decode cX0_laySets 70 = .ok (.getfield 277, 3) := dk_180 1 21 (dk_at dksX0_laySets_3 0 rfl rfl)
theorem dX0_laySets_73 : decode cX0_laySets 73 = .ok (.iconst 1, 1) := dk_4 (dk_at dksX0_laySets_3 3 rfl rfl)
theorem dX0_laySets_74 : decode cX0_laySets 74 = .ok (.iadd, 1) := dk_96 (dk_at dksX0_laySets_3 4 rfl rfl)
theorem dX0_laySets_75 : decode cX0_laySets 75 = .ok (.putfield 277, 3) := dk_181 1 21 (dk_at dksX0_laySets_3 5 rfl rfl)
theorem dX0_laySets_78 : decode cX0_laySets 78 = .ok (.aload_n 0, 1) := dk_42 (dk_at dksX0_laySets_3 8 rfl rfl)
theorem dX0_laySets_79 : decode cX0_laySets 79 = .ok (.dup, 1) := dk_89 (dk_at dksX0_laySets_3 9 rfl rfl)
theorem dX0_laySets_80 : decode cX0_laySets 80 = .ok (.getfield 283, 3) := dk_180 1 27 (dk_at dksX0_laySets_3 10 rfl rfl)
theorem dX0_laySets_83 : decode cX0_laySets 83 = .ok (.iload_n 2, 1) := dk_28 (dk_at dksX0_laySets_3 13 rfl rfl)
theorem dX0_laySets_84 : decode cX0_laySets 84 = .ok (.iand, 1) := dk_126 (dk_at dksX0_laySets_3 14 rfl rfl)
theorem dX0_laySets_85 : decode cX0_laySets 85 = .ok (.putfield 283, 3) := dk_181 1 27 (dk_at dksX0_laySets_3 15 rfl rfl)
theorem dX0_laySets_88 : decode cX0_laySets 88 = .ok (.aload_n 0, 1) := dk_42 (dk_at dksX0_laySets_3 18 rfl rfl)
theorem dX0_laySets_89 : decode cX0_laySets 89 = .ok (.dup, 1) := dk_89 (dk_at dksX0_laySets_3 19 rfl rfl)
theorem dX0_laySets_90 : decode cX0_laySets 90 = .ok (.getfield 286, 3) := dk_180 1 30 (dk_at dksX0_laySets_3 20 rfl rfl)
theorem dX0_laySets_93 : decode cX0_laySets 93 = .ok (.iload_n 2, 1) := dk_28 (dk_at dksX0_laySets_3 23 rfl rfl)
theorem dX0_laySets_94 : decode cX0_laySets 94 = .ok (.ior, 1) := dk_128 (dk_at dksX0_laySets_4 0 rfl rfl)
theorem dX0_laySets_95 : decode cX0_laySets 95 = .ok (.putfield 286, 3) := dk_181 1 30 (dk_at dksX0_laySets_4 1 rfl rfl)
theorem dX0_laySets_98 : decode cX0_laySets 98 = .ok (.iinc 2 1, 3) := dk_132 2 1 (dk_at dksX0_laySets_4 4 rfl rfl)
theorem dX0_laySets_101 : decode cX0_laySets 101 = .ok (.goto (-71), 3) := dk_167 255 185 (dk_at dksX0_laySets_4 7 rfl rfl)
theorem dX0_laySets_104 : decode cX0_laySets 104 = .ok (.return_, 1) := dk_177 (dk_at dksX0_laySets_4 10 rfl rfl)
abbrev cX0_daringOf : ByteArray := prog_1_method_70_code
def yX0_daringOf : MethodName := ⟨RX0, "daringOf", "(I)I"⟩
def dkwX0_daringOf_1 : List UInt8 := [180, 0, 41, 5, 29, 96, 46, 167, 0, 4, 3, 96, 61, 132, 3, 1, 167, 255, 222, 28, 172]
abbrev dktX0_daringOf_1 : List UInt8 := dkwX0_daringOf_1 ++ []
def dkwX0_daringOf_0 : List UInt8 := [3, 61, 3, 62, 29, 42, 180, 0, 116, 162, 0, 32, 28, 27, 29, 184, 0, 141, 153, 0, 14, 42]
abbrev dktX0_daringOf_0 : List UInt8 := dkwX0_daringOf_0 ++ dktX0_daringOf_1
theorem dksX0_daringOf_0 : cX0_daringOf.data.toList.drop 0 = dktX0_daringOf_0 := by decide +kernel
theorem dksX0_daringOf_1 : cX0_daringOf.data.toList.drop 22 = dktX0_daringOf_1 := dk_seg dksX0_daringOf_0 22 rfl rfl
theorem dX0_daringOf_0 : decode cX0_daringOf 0 = .ok (.iconst 0, 1) := dk_3 (dk_at dksX0_daringOf_0 0 rfl rfl)
theorem dX0_daringOf_1 : decode cX0_daringOf 1 = .ok (.istore_n 2, 1) := dk_61 (dk_at dksX0_daringOf_0 1 rfl rfl)
theorem dX0_daringOf_2 : decode cX0_daringOf 2 = .ok (.iconst 0, 1) := dk_3 (dk_at dksX0_daringOf_0 2 rfl rfl)
theorem dX0_daringOf_3 : decode cX0_daringOf 3 = .ok (.istore_n 3, 1) := dk_62 (dk_at dksX0_daringOf_0 3 rfl rfl)
theorem dX0_daringOf_4 : decode cX0_daringOf 4 = .ok (.iload_n 3, 1) := dk_29 (dk_at dksX0_daringOf_0 4 rfl rfl)
theorem dX0_daringOf_5 : decode cX0_daringOf 5 = .ok (.aload_n 0, 1) := dk_42 (dk_at dksX0_daringOf_0 5 rfl rfl)
theorem dX0_daringOf_6 : decode cX0_daringOf 6 = .ok (.getfield 116, 3) := dk_180 0 116 (dk_at dksX0_daringOf_0 6 rfl rfl)
theorem dX0_daringOf_9 : decode cX0_daringOf 9 = .ok (.if_icmp .ge 32, 3) := dk_162 0 32 (dk_at dksX0_daringOf_0 9 rfl rfl)
theorem dX0_daringOf_12 : decode cX0_daringOf 12 = .ok (.iload_n 2, 1) := dk_28 (dk_at dksX0_daringOf_0 12 rfl rfl)
theorem dX0_daringOf_13 : decode cX0_daringOf 13 = .ok (.iload_n 1, 1) := dk_27 (dk_at dksX0_daringOf_0 13 rfl rfl)
theorem dX0_daringOf_14 : decode cX0_daringOf 14 = .ok (.iload_n 3, 1) := dk_29 (dk_at dksX0_daringOf_0 14 rfl rfl)
theorem dX0_daringOf_15 : decode cX0_daringOf 15 = .ok (.invokestatic 141, 3) := dk_184 0 141 (dk_at dksX0_daringOf_0 15 rfl rfl)
theorem dX0_daringOf_18 : decode cX0_daringOf 18 = .ok (.ifCond .eq 14, 3) := dk_153 0 14 (dk_at dksX0_daringOf_0 18 rfl rfl)
theorem dX0_daringOf_21 : decode cX0_daringOf 21 = .ok (.aload_n 0, 1) := dk_42 (dk_at dksX0_daringOf_0 21 rfl rfl)
theorem dX0_daringOf_22 : decode cX0_daringOf 22 = .ok (.getfield 41, 3) := dk_180 0 41 (dk_at dksX0_daringOf_1 0 rfl rfl)
theorem dX0_daringOf_25 : decode cX0_daringOf 25 = .ok (.iconst 2, 1) := dk_5 (dk_at dksX0_daringOf_1 3 rfl rfl)
theorem dX0_daringOf_26 : decode cX0_daringOf 26 = .ok (.iload_n 3, 1) := dk_29 (dk_at dksX0_daringOf_1 4 rfl rfl)
theorem dX0_daringOf_27 : decode cX0_daringOf 27 = .ok (.iadd, 1) := dk_96 (dk_at dksX0_daringOf_1 5 rfl rfl)
theorem dX0_daringOf_28 : decode cX0_daringOf 28 = .ok (.iaload, 1) := dk_46 (dk_at dksX0_daringOf_1 6 rfl rfl)
theorem dX0_daringOf_29 : decode cX0_daringOf 29 = .ok (.goto 4, 3) := dk_167 0 4 (dk_at dksX0_daringOf_1 7 rfl rfl)
theorem dX0_daringOf_32 : decode cX0_daringOf 32 = .ok (.iconst 0, 1) := dk_3 (dk_at dksX0_daringOf_1 10 rfl rfl)
theorem dX0_daringOf_33 : decode cX0_daringOf 33 = .ok (.iadd, 1) := dk_96 (dk_at dksX0_daringOf_1 11 rfl rfl)
theorem dX0_daringOf_34 : decode cX0_daringOf 34 = .ok (.istore_n 2, 1) := dk_61 (dk_at dksX0_daringOf_1 12 rfl rfl)
theorem dX0_daringOf_35 : decode cX0_daringOf 35 = .ok (.iinc 3 1, 3) := dk_132 3 1 (dk_at dksX0_daringOf_1 13 rfl rfl)
theorem dX0_daringOf_38 : decode cX0_daringOf 38 = .ok (.goto (-34), 3) := dk_167 255 222 (dk_at dksX0_daringOf_1 16 rfl rfl)
theorem dX0_daringOf_41 : decode cX0_daringOf 41 = .ok (.iload_n 2, 1) := dk_28 (dk_at dksX0_daringOf_1 19 rfl rfl)
theorem dX0_daringOf_42 : decode cX0_daringOf 42 = .ok (.ireturn, 1) := dk_172 (dk_at dksX0_daringOf_1 20 rfl rfl)
abbrev cX0_fraction : ByteArray := prog_1_method_7_code
def yX0_fraction : MethodName := ⟨RX0, "fraction", "(JJ)I"⟩
def dkwX0_fraction_2 : List UInt8 := [172]
abbrev dktX0_fraction_2 : List UInt8 := dkwX0_fraction_2 ++ []
def dkwX0_fraction_1 : List UInt8 := [22, 9, 55, 7, 167, 255, 234, 42, 31, 22, 5, 109, 181, 0, 62, 42, 33, 22, 5, 109, 181, 0, 20, 4]
abbrev dktX0_fraction_1 : List UInt8 := dkwX0_fraction_1 ++ dktX0_fraction_2
def dkwX0_fraction_0 : List UInt8 := [31, 55, 5, 33, 55, 7, 22, 7, 9, 148, 153, 0, 21, 22, 5, 22, 7, 113, 55, 9, 22, 7, 55, 5]
abbrev dktX0_fraction_0 : List UInt8 := dkwX0_fraction_0 ++ dktX0_fraction_1
theorem dksX0_fraction_0 : cX0_fraction.data.toList.drop 0 = dktX0_fraction_0 := by decide +kernel
theorem dksX0_fraction_1 : cX0_fraction.data.toList.drop 24 = dktX0_fraction_1 := dk_seg dksX0_fraction_0 24 rfl rfl
theorem dksX0_fraction_2 : cX0_fraction.data.toList.drop 48 = dktX0_fraction_2 := dk_seg dksX0_fraction_1 24 rfl rfl
theorem dX0_fraction_0 : decode cX0_fraction 0 = .ok (.lload_n 1, 1) := dk_31 (dk_at dksX0_fraction_0 0 rfl rfl)
theorem dX0_fraction_1 : decode cX0_fraction 1 = .ok (.lstore 5, 2) := dk_55 5 (dk_at dksX0_fraction_0 1 rfl rfl)
theorem dX0_fraction_3 : decode cX0_fraction 3 = .ok (.lload_n 3, 1) := dk_33 (dk_at dksX0_fraction_0 3 rfl rfl)
theorem dX0_fraction_4 : decode cX0_fraction 4 = .ok (.lstore 7, 2) := dk_55 7 (dk_at dksX0_fraction_0 4 rfl rfl)
theorem dX0_fraction_6 : decode cX0_fraction 6 = .ok (.lload 7, 2) := dk_22 7 (dk_at dksX0_fraction_0 6 rfl rfl)
theorem dX0_fraction_8 : decode cX0_fraction 8 = .ok (.lconst 0, 1) := dk_9 (dk_at dksX0_fraction_0 8 rfl rfl)
theorem dX0_fraction_9 : decode cX0_fraction 9 = .ok (.lcmp, 1) := dk_148 (dk_at dksX0_fraction_0 9 rfl rfl)
theorem dX0_fraction_10 : decode cX0_fraction 10 = .ok (.ifCond .eq 21, 3) := dk_153 0 21 (dk_at dksX0_fraction_0 10 rfl rfl)
theorem dX0_fraction_13 : decode cX0_fraction 13 = .ok (.lload 5, 2) := dk_22 5 (dk_at dksX0_fraction_0 13 rfl rfl)
theorem dX0_fraction_15 : decode cX0_fraction 15 = .ok (.lload 7, 2) := dk_22 7 (dk_at dksX0_fraction_0 15 rfl rfl)
theorem dX0_fraction_17 : decode cX0_fraction 17 = .ok (.lrem, 1) := dk_113 (dk_at dksX0_fraction_0 17 rfl rfl)
theorem dX0_fraction_18 : decode cX0_fraction 18 = .ok (.lstore 9, 2) := dk_55 9 (dk_at dksX0_fraction_0 18 rfl rfl)
theorem dX0_fraction_20 : decode cX0_fraction 20 = .ok (.lload 7, 2) := dk_22 7 (dk_at dksX0_fraction_0 20 rfl rfl)
theorem dX0_fraction_22 : decode cX0_fraction 22 = .ok (.lstore 5, 2) := dk_55 5 (dk_at dksX0_fraction_0 22 rfl rfl)
theorem dX0_fraction_24 : decode cX0_fraction 24 = .ok (.lload 9, 2) := dk_22 9 (dk_at dksX0_fraction_1 0 rfl rfl)
theorem dX0_fraction_26 : decode cX0_fraction 26 = .ok (.lstore 7, 2) := dk_55 7 (dk_at dksX0_fraction_1 2 rfl rfl)
theorem dX0_fraction_28 : decode cX0_fraction 28 = .ok (.goto (-22), 3) := dk_167 255 234 (dk_at dksX0_fraction_1 4 rfl rfl)
theorem dX0_fraction_31 : decode cX0_fraction 31 = .ok (.aload_n 0, 1) := dk_42 (dk_at dksX0_fraction_1 7 rfl rfl)
theorem dX0_fraction_32 : decode cX0_fraction 32 = .ok (.lload_n 1, 1) := dk_31 (dk_at dksX0_fraction_1 8 rfl rfl)
theorem dX0_fraction_33 : decode cX0_fraction 33 = .ok (.lload 5, 2) := dk_22 5 (dk_at dksX0_fraction_1 9 rfl rfl)
theorem dX0_fraction_35 : decode cX0_fraction 35 = .ok (.ldiv, 1) := dk_109 (dk_at dksX0_fraction_1 11 rfl rfl)
theorem dX0_fraction_36 : decode cX0_fraction 36 = .ok (.putfield 62, 3) := dk_181 0 62 (dk_at dksX0_fraction_1 12 rfl rfl)
theorem dX0_fraction_39 : decode cX0_fraction 39 = .ok (.aload_n 0, 1) := dk_42 (dk_at dksX0_fraction_1 15 rfl rfl)
theorem dX0_fraction_40 : decode cX0_fraction 40 = .ok (.lload_n 3, 1) := dk_33 (dk_at dksX0_fraction_1 16 rfl rfl)
theorem dX0_fraction_41 : decode cX0_fraction 41 = .ok (.lload 5, 2) := dk_22 5 (dk_at dksX0_fraction_1 17 rfl rfl)
theorem dX0_fraction_43 : decode cX0_fraction 43 = .ok (.ldiv, 1) := dk_109 (dk_at dksX0_fraction_1 19 rfl rfl)
theorem dX0_fraction_44 : decode cX0_fraction 44 = .ok (.putfield 20, 3) := dk_181 0 20 (dk_at dksX0_fraction_1 20 rfl rfl)
theorem dX0_fraction_47 : decode cX0_fraction 47 = .ok (.iconst 1, 1) := dk_4 (dk_at dksX0_fraction_1 23 rfl rfl)
theorem dX0_fraction_48 : decode cX0_fraction 48 = .ok (.ireturn, 1) := dk_172 (dk_at dksX0_fraction_2 0 rfl rfl)
abbrev cX0_sure : ByteArray := prog_1_method_73_code
def yX0_sure : MethodName := ⟨RX0, "sure", "(I)I"⟩
def dkwX0_sure_2 : List UInt8 := [180, 1, 30, 2, 130, 126, 42, 180, 1, 27, 182, 0, 79, 172]
abbrev dktX0_sure_2 : List UInt8 := dkwX0_sure_2 ++ []
def dkwX0_sure_1 : List UInt8 := [180, 1, 21, 154, 0, 11, 42, 7, 182, 0, 75, 167, 0, 26, 42, 4, 42, 180, 0, 116, 120, 4, 100, 42]
abbrev dktX0_sure_1 : List UInt8 := dkwX0_sure_1 ++ dktX0_sure_2
def dkwX0_sure_0 : List UInt8 := [42, 27, 3, 16, 120, 184, 0, 65, 182, 0, 238, 61, 28, 156, 0, 5, 28, 172, 42, 27, 182, 1, 36, 42]
abbrev dktX0_sure_0 : List UInt8 := dkwX0_sure_0 ++ dktX0_sure_1
theorem dksX0_sure_0 : cX0_sure.data.toList.drop 0 = dktX0_sure_0 := by decide +kernel
theorem dksX0_sure_1 : cX0_sure.data.toList.drop 24 = dktX0_sure_1 := dk_seg dksX0_sure_0 24 rfl rfl
theorem dksX0_sure_2 : cX0_sure.data.toList.drop 48 = dktX0_sure_2 := dk_seg dksX0_sure_1 24 rfl rfl
theorem dX0_sure_0 : decode cX0_sure 0 = .ok (.aload_n 0, 1) := dk_42 (dk_at dksX0_sure_0 0 rfl rfl)
theorem dX0_sure_1 : decode cX0_sure 1 = .ok (.iload_n 1, 1) := dk_27 (dk_at dksX0_sure_0 1 rfl rfl)
theorem dX0_sure_2 : decode cX0_sure 2 = .ok (.iconst 0, 1) := dk_3 (dk_at dksX0_sure_0 2 rfl rfl)
theorem dX0_sure_3 : decode cX0_sure 3 = .ok (.bipush 120, 2) := dk_16 120 (dk_at dksX0_sure_0 3 rfl rfl)
theorem dX0_sure_5 : decode cX0_sure 5 = .ok (.invokestatic 65, 3) := dk_184 0 65 (dk_at dksX0_sure_0 5 rfl rfl)
theorem dX0_sure_8 : decode cX0_sure 8 = .ok (.invokevirtual 238, 3) := dk_182 0 238 (dk_at dksX0_sure_0 8 rfl rfl)
theorem dX0_sure_11 : decode cX0_sure 11 = .ok (.istore_n 2, 1) := dk_61 (dk_at dksX0_sure_0 11 rfl rfl)
theorem dX0_sure_12 : decode cX0_sure 12 = .ok (.iload_n 2, 1) := dk_28 (dk_at dksX0_sure_0 12 rfl rfl)
theorem dX0_sure_13 : decode cX0_sure 13 = .ok (.ifCond .ge 5, 3) := dk_156 0 5 (dk_at dksX0_sure_0 13 rfl rfl)
theorem dX0_sure_16 : decode cX0_sure 16 = .ok (.iload_n 2, 1) := dk_28 (dk_at dksX0_sure_0 16 rfl rfl)
theorem dX0_sure_17 : decode cX0_sure 17 = .ok (.ireturn, 1) := dk_172 (dk_at dksX0_sure_0 17 rfl rfl)
theorem dX0_sure_18 : decode cX0_sure 18 = .ok (.aload_n 0, 1) := dk_42 (dk_at dksX0_sure_0 18 rfl rfl)
theorem dX0_sure_19 : decode cX0_sure 19 = .ok (.iload_n 1, 1) := dk_27 (dk_at dksX0_sure_0 19 rfl rfl)
theorem dX0_sure_20 : decode cX0_sure 20 = .ok (.invokevirtual 292, 3) := dk_182 1 36 (dk_at dksX0_sure_0 20 rfl rfl)
theorem dX0_sure_23 : decode cX0_sure 23 = .ok (.aload_n 0, 1) := dk_42 (dk_at dksX0_sure_0 23 rfl rfl)
theorem dX0_sure_24 : decode cX0_sure 24 = .ok (.getfield 277, 3) := dk_180 1 21 (dk_at dksX0_sure_1 0 rfl rfl)
theorem dX0_sure_27 : decode cX0_sure 27 = .ok (.ifCond .ne 11, 3) := dk_154 0 11 (dk_at dksX0_sure_1 3 rfl rfl)
theorem dX0_sure_30 : decode cX0_sure 30 = .ok (.aload_n 0, 1) := dk_42 (dk_at dksX0_sure_1 6 rfl rfl)
theorem dX0_sure_31 : decode cX0_sure 31 = .ok (.iconst 4, 1) := dk_7 (dk_at dksX0_sure_1 7 rfl rfl)
theorem dX0_sure_32 : decode cX0_sure 32 = .ok (.invokevirtual 75, 3) := dk_182 0 75 (dk_at dksX0_sure_1 8 rfl rfl)
theorem dX0_sure_35 : decode cX0_sure 35 = .ok (.goto 26, 3) := dk_167 0 26 (dk_at dksX0_sure_1 11 rfl rfl)
theorem dX0_sure_38 : decode cX0_sure 38 = .ok (.aload_n 0, 1) := dk_42 (dk_at dksX0_sure_1 14 rfl rfl)
theorem dX0_sure_39 : decode cX0_sure 39 = .ok (.iconst 1, 1) := dk_4 (dk_at dksX0_sure_1 15 rfl rfl)
theorem dX0_sure_40 : decode cX0_sure 40 = .ok (.aload_n 0, 1) := dk_42 (dk_at dksX0_sure_1 16 rfl rfl)
theorem dX0_sure_41 : decode cX0_sure 41 = .ok (.getfield 116, 3) := dk_180 0 116 (dk_at dksX0_sure_1 17 rfl rfl)
theorem dX0_sure_44 : decode cX0_sure 44 = .ok (.ishl, 1) := dk_120 (dk_at dksX0_sure_1 20 rfl rfl)
theorem dX0_sure_45 : decode cX0_sure 45 = .ok (.iconst 1, 1) := dk_4 (dk_at dksX0_sure_1 21 rfl rfl)
theorem dX0_sure_46 : decode cX0_sure 46 = .ok (.isub, 1) := dk_100 (dk_at dksX0_sure_1 22 rfl rfl)
theorem dX0_sure_47 : decode cX0_sure 47 = .ok (.aload_n 0, 1) := dk_42 (dk_at dksX0_sure_1 23 rfl rfl)
theorem dX0_sure_48 : decode cX0_sure 48 = .ok (.getfield 286, 3) := dk_180 1 30 (dk_at dksX0_sure_2 0 rfl rfl)
theorem dX0_sure_51 : decode cX0_sure 51 = .ok (.iconst (-1), 1) := dk_2 (dk_at dksX0_sure_2 3 rfl rfl)
theorem dX0_sure_52 : decode cX0_sure 52 = .ok (.ixor, 1) := dk_130 (dk_at dksX0_sure_2 4 rfl rfl)
theorem dX0_sure_53 : decode cX0_sure 53 = .ok (.iand, 1) := dk_126 (dk_at dksX0_sure_2 5 rfl rfl)
theorem dX0_sure_54 : decode cX0_sure 54 = .ok (.aload_n 0, 1) := dk_42 (dk_at dksX0_sure_2 6 rfl rfl)
theorem dX0_sure_55 : decode cX0_sure 55 = .ok (.getfield 283, 3) := dk_180 1 27 (dk_at dksX0_sure_2 7 rfl rfl)
theorem dX0_sure_58 : decode cX0_sure 58 = .ok (.invokevirtual 79, 3) := dk_182 0 79 (dk_at dksX0_sure_2 10 rfl rfl)
theorem dX0_sure_61 : decode cX0_sure 61 = .ok (.ireturn, 1) := dk_172 (dk_at dksX0_sure_2 13 rfl rfl)
abbrev cX0_duel : ByteArray := prog_1_method_75_code
def yX0_duel : MethodName := ⟨RX0, "duel", "(III)I"⟩
def dkwX0_duel_2 : List UInt8 := [182, 1, 44, 4, 182, 0, 79, 172]
abbrev dktX0_duel_2 : List UInt8 := dkwX0_duel_2 ++ []
def dkwX0_duel_1 : List UInt8 := [184, 0, 65, 154, 0, 5, 2, 172, 42, 3, 4, 182, 0, 242, 42, 42, 4, 27, 28, 5, 29, 104]
abbrev dktX0_duel_1 : List UInt8 := dkwX0_duel_1 ++ dktX0_duel_2
def dkwX0_duel_0 : List UInt8 := [42, 27, 182, 0, 208, 153, 0, 25, 42, 28, 182, 0, 208, 153, 0, 17, 27, 28, 159, 0, 12, 29, 3, 6]
abbrev dktX0_duel_0 : List UInt8 := dkwX0_duel_0 ++ dktX0_duel_1
theorem dksX0_duel_0 : cX0_duel.data.toList.drop 0 = dktX0_duel_0 := by decide +kernel
theorem dksX0_duel_1 : cX0_duel.data.toList.drop 24 = dktX0_duel_1 := dk_seg dksX0_duel_0 24 rfl rfl
theorem dksX0_duel_2 : cX0_duel.data.toList.drop 46 = dktX0_duel_2 := dk_seg dksX0_duel_1 22 rfl rfl
theorem dX0_duel_0 : decode cX0_duel 0 = .ok (.aload_n 0, 1) := dk_42 (dk_at dksX0_duel_0 0 rfl rfl)
theorem dX0_duel_1 : decode cX0_duel 1 = .ok (.iload_n 1, 1) := dk_27 (dk_at dksX0_duel_0 1 rfl rfl)
theorem dX0_duel_2 : decode cX0_duel 2 = .ok (.invokevirtual 208, 3) := dk_182 0 208 (dk_at dksX0_duel_0 2 rfl rfl)
theorem dX0_duel_5 : decode cX0_duel 5 = .ok (.ifCond .eq 25, 3) := dk_153 0 25 (dk_at dksX0_duel_0 5 rfl rfl)
theorem dX0_duel_8 : decode cX0_duel 8 = .ok (.aload_n 0, 1) := dk_42 (dk_at dksX0_duel_0 8 rfl rfl)
theorem dX0_duel_9 : decode cX0_duel 9 = .ok (.iload_n 2, 1) := dk_28 (dk_at dksX0_duel_0 9 rfl rfl)
theorem dX0_duel_10 : decode cX0_duel 10 = .ok (.invokevirtual 208, 3) := dk_182 0 208 (dk_at dksX0_duel_0 10 rfl rfl)
theorem dX0_duel_13 : decode cX0_duel 13 = .ok (.ifCond .eq 17, 3) := dk_153 0 17 (dk_at dksX0_duel_0 13 rfl rfl)
theorem dX0_duel_16 : decode cX0_duel 16 = .ok (.iload_n 1, 1) := dk_27 (dk_at dksX0_duel_0 16 rfl rfl)
theorem dX0_duel_17 : decode cX0_duel 17 = .ok (.iload_n 2, 1) := dk_28 (dk_at dksX0_duel_0 17 rfl rfl)
theorem dX0_duel_18 : decode cX0_duel 18 = .ok (.if_icmp .eq 12, 3) := dk_159 0 12 (dk_at dksX0_duel_0 18 rfl rfl)
theorem dX0_duel_21 : decode cX0_duel 21 = .ok (.iload_n 3, 1) := dk_29 (dk_at dksX0_duel_0 21 rfl rfl)
theorem dX0_duel_22 : decode cX0_duel 22 = .ok (.iconst 0, 1) := dk_3 (dk_at dksX0_duel_0 22 rfl rfl)
theorem dX0_duel_23 : decode cX0_duel 23 = .ok (.iconst 3, 1) := dk_6 (dk_at dksX0_duel_0 23 rfl rfl)
theorem dX0_duel_24 : decode cX0_duel 24 = .ok (.invokestatic 65, 3) := dk_184 0 65 (dk_at dksX0_duel_1 0 rfl rfl)
theorem dX0_duel_27 : decode cX0_duel 27 = .ok (.ifCond .ne 5, 3) := dk_154 0 5 (dk_at dksX0_duel_1 3 rfl rfl)
theorem dX0_duel_30 : decode cX0_duel 30 = .ok (.iconst (-1), 1) := dk_2 (dk_at dksX0_duel_1 6 rfl rfl)
theorem dX0_duel_31 : decode cX0_duel 31 = .ok (.ireturn, 1) := dk_172 (dk_at dksX0_duel_1 7 rfl rfl)
theorem dX0_duel_32 : decode cX0_duel 32 = .ok (.aload_n 0, 1) := dk_42 (dk_at dksX0_duel_1 8 rfl rfl)
theorem dX0_duel_33 : decode cX0_duel 33 = .ok (.iconst 0, 1) := dk_3 (dk_at dksX0_duel_1 9 rfl rfl)
theorem dX0_duel_34 : decode cX0_duel 34 = .ok (.iconst 1, 1) := dk_4 (dk_at dksX0_duel_1 10 rfl rfl)
theorem dX0_duel_35 : decode cX0_duel 35 = .ok (.invokevirtual 242, 3) := dk_182 0 242 (dk_at dksX0_duel_1 11 rfl rfl)
theorem dX0_duel_38 : decode cX0_duel 38 = .ok (.aload_n 0, 1) := dk_42 (dk_at dksX0_duel_1 14 rfl rfl)
theorem dX0_duel_39 : decode cX0_duel 39 = .ok (.aload_n 0, 1) := dk_42 (dk_at dksX0_duel_1 15 rfl rfl)
theorem dX0_duel_40 : decode cX0_duel 40 = .ok (.iconst 1, 1) := dk_4 (dk_at dksX0_duel_1 16 rfl rfl)
theorem dX0_duel_41 : decode cX0_duel 41 = .ok (.iload_n 1, 1) := dk_27 (dk_at dksX0_duel_1 17 rfl rfl)
theorem dX0_duel_42 : decode cX0_duel 42 = .ok (.iload_n 2, 1) := dk_28 (dk_at dksX0_duel_1 18 rfl rfl)
theorem dX0_duel_43 : decode cX0_duel 43 = .ok (.iconst 2, 1) := dk_5 (dk_at dksX0_duel_1 19 rfl rfl)
theorem dX0_duel_44 : decode cX0_duel 44 = .ok (.iload_n 3, 1) := dk_29 (dk_at dksX0_duel_1 20 rfl rfl)
theorem dX0_duel_45 : decode cX0_duel 45 = .ok (.imul, 1) := dk_104 (dk_at dksX0_duel_1 21 rfl rfl)
theorem dX0_duel_46 : decode cX0_duel 46 = .ok (.invokevirtual 300, 3) := dk_182 1 44 (dk_at dksX0_duel_2 0 rfl rfl)
theorem dX0_duel_49 : decode cX0_duel 49 = .ok (.iconst 1, 1) := dk_4 (dk_at dksX0_duel_2 3 rfl rfl)
theorem dX0_duel_50 : decode cX0_duel 50 = .ok (.invokevirtual 79, 3) := dk_182 0 79 (dk_at dksX0_duel_2 4 rfl rfl)
theorem dX0_duel_53 : decode cX0_duel 53 = .ok (.ireturn, 1) := dk_172 (dk_at dksX0_duel_2 7 rfl rfl)
abbrev cX0_plays : ByteArray := prog_1_method_74_code
def yX0_plays : MethodName := ⟨RX0, "plays", "(IIII)I"⟩
def dkwX0_plays_7 : List UInt8 := [184, 1, 18, 54, 7, 132, 8, 1, 167, 255, 157, 21, 7, 172]
abbrev dktX0_plays_7 : List UInt8 := dkwX0_plays_7 ++ []
def dkwX0_plays_6 : List UInt8 := [182, 1, 44, 54, 9, 21, 5, 153, 0, 13, 21, 7, 21, 9, 184, 0, 159, 167, 0, 10, 21, 7, 21, 9]
abbrev dktX0_plays_6 : List UInt8 := dkwX0_plays_6 ++ dktX0_plays_7
def dkwX0_plays_5 : List UInt8 := [4, 96, 104, 5, 96, 21, 6, 96, 92, 46, 21, 8, 96, 79, 42, 27, 4, 96, 28, 29, 21, 4, 4, 100]
abbrev dktX0_plays_5 : List UInt8 := dkwX0_plays_5 ++ dktX0_plays_6
def dkwX0_plays_4 : List UInt8 := [46, 21, 8, 96, 16, 20, 163, 0, 77, 42, 27, 27, 4, 96, 182, 0, 242, 42, 180, 0, 41, 16, 20, 27]
abbrev dktX0_plays_4 : List UInt8 := dkwX0_plays_4 ++ dktX0_plays_5
def dkwX0_plays_3 : List UInt8 := [54, 7, 3, 54, 8, 21, 8, 5, 163, 0, 99, 42, 180, 0, 41, 16, 20, 27, 104, 5, 96, 21, 6, 96]
abbrev dktX0_plays_3 : List UInt8 := dkwX0_plays_3 ++ dktX0_plays_4
def dkwX0_plays_2 : List UInt8 := [54, 5, 21, 5, 153, 0, 7, 28, 167, 0, 4, 29, 54, 6, 21, 5, 153, 0, 7, 2, 167, 0, 4, 4]
abbrev dktX0_plays_2 : List UInt8 := dkwX0_plays_2 ++ dktX0_plays_3
def dkwX0_plays_1 : List UInt8 := [21, 5, 29, 160, 0, 7, 2, 167, 0, 4, 3, 172, 21, 4, 5, 112, 154, 0, 7, 4, 167, 0, 4, 3]
abbrev dktX0_plays_1 : List UInt8 := dkwX0_plays_1 ++ dktX0_plays_2
def dkwX0_plays_0 : List UInt8 := [21, 4, 154, 0, 33, 42, 27, 3, 182, 0, 152, 54, 5, 21, 5, 28, 160, 0, 7, 4, 167, 0, 14]
abbrev dktX0_plays_0 : List UInt8 := dkwX0_plays_0 ++ dktX0_plays_1
theorem dksX0_plays_0 : cX0_plays.data.toList.drop 0 = dktX0_plays_0 := by decide +kernel
theorem dksX0_plays_1 : cX0_plays.data.toList.drop 23 = dktX0_plays_1 := dk_seg dksX0_plays_0 23 rfl rfl
theorem dksX0_plays_2 : cX0_plays.data.toList.drop 47 = dktX0_plays_2 := dk_seg dksX0_plays_1 24 rfl rfl
theorem dksX0_plays_3 : cX0_plays.data.toList.drop 71 = dktX0_plays_3 := dk_seg dksX0_plays_2 24 rfl rfl
theorem dksX0_plays_4 : cX0_plays.data.toList.drop 95 = dktX0_plays_4 := dk_seg dksX0_plays_3 24 rfl rfl
theorem dksX0_plays_5 : cX0_plays.data.toList.drop 119 = dktX0_plays_5 := dk_seg dksX0_plays_4 24 rfl rfl
theorem dksX0_plays_6 : cX0_plays.data.toList.drop 143 = dktX0_plays_6 := dk_seg dksX0_plays_5 24 rfl rfl
theorem dksX0_plays_7 : cX0_plays.data.toList.drop 167 = dktX0_plays_7 := dk_seg dksX0_plays_6 24 rfl rfl
theorem dX0_plays_0 : decode cX0_plays 0 = .ok (.iload 4, 2) := dk_21 4 (dk_at dksX0_plays_0 0 rfl rfl)
theorem dX0_plays_2 : decode cX0_plays 2 = .ok (.ifCond .ne 33, 3) := dk_154 0 33 (dk_at dksX0_plays_0 2 rfl rfl)
theorem dX0_plays_5 : decode cX0_plays 5 = .ok (.aload_n 0, 1) := dk_42 (dk_at dksX0_plays_0 5 rfl rfl)
theorem dX0_plays_6 : decode cX0_plays 6 = .ok (.iload_n 1, 1) := dk_27 (dk_at dksX0_plays_0 6 rfl rfl)
theorem dX0_plays_7 : decode cX0_plays 7 = .ok (.iconst 0, 1) := dk_3 (dk_at dksX0_plays_0 7 rfl rfl)
theorem dX0_plays_8 : decode cX0_plays 8 = .ok (.invokevirtual 152, 3) := dk_182 0 152 (dk_at dksX0_plays_0 8 rfl rfl)
theorem dX0_plays_11 : decode cX0_plays 11 = .ok (.istore 5, 2) := dk_54 5 (dk_at dksX0_plays_0 11 rfl rfl)
theorem dX0_plays_13 : decode cX0_plays 13 = .ok (.iload 5, 2) := dk_21 5 (dk_at dksX0_plays_0 13 rfl rfl)
theorem dX0_plays_15 : decode cX0_plays 15 = .ok (.iload_n 2, 1) := dk_28 (dk_at dksX0_plays_0 15 rfl rfl)
theorem dX0_plays_16 : decode cX0_plays 16 = .ok (.if_icmp .ne 7, 3) := dk_160 0 7 (dk_at dksX0_plays_0 16 rfl rfl)
theorem dX0_plays_19 : decode cX0_plays 19 = .ok (.iconst 1, 1) := dk_4 (dk_at dksX0_plays_0 19 rfl rfl)
theorem dX0_plays_20 : decode cX0_plays 20 = .ok (.goto 14, 3) := dk_167 0 14 (dk_at dksX0_plays_0 20 rfl rfl)
theorem dX0_plays_23 : decode cX0_plays 23 = .ok (.iload 5, 2) := dk_21 5 (dk_at dksX0_plays_1 0 rfl rfl)
theorem dX0_plays_25 : decode cX0_plays 25 = .ok (.iload_n 3, 1) := dk_29 (dk_at dksX0_plays_1 2 rfl rfl)
theorem dX0_plays_26 : decode cX0_plays 26 = .ok (.if_icmp .ne 7, 3) := dk_160 0 7 (dk_at dksX0_plays_1 3 rfl rfl)
theorem dX0_plays_29 : decode cX0_plays 29 = .ok (.iconst (-1), 1) := dk_2 (dk_at dksX0_plays_1 6 rfl rfl)
theorem dX0_plays_30 : decode cX0_plays 30 = .ok (.goto 4, 3) := dk_167 0 4 (dk_at dksX0_plays_1 7 rfl rfl)
theorem dX0_plays_33 : decode cX0_plays 33 = .ok (.iconst 0, 1) := dk_3 (dk_at dksX0_plays_1 10 rfl rfl)
theorem dX0_plays_34 : decode cX0_plays 34 = .ok (.ireturn, 1) := dk_172 (dk_at dksX0_plays_1 11 rfl rfl)
theorem dX0_plays_35 : decode cX0_plays 35 = .ok (.iload 4, 2) := dk_21 4 (dk_at dksX0_plays_1 12 rfl rfl)
theorem dX0_plays_37 : decode cX0_plays 37 = .ok (.iconst 2, 1) := dk_5 (dk_at dksX0_plays_1 14 rfl rfl)
theorem dX0_plays_38 : decode cX0_plays 38 = .ok (.irem, 1) := dk_112 (dk_at dksX0_plays_1 15 rfl rfl)
theorem dX0_plays_39 : decode cX0_plays 39 = .ok (.ifCond .ne 7, 3) := dk_154 0 7 (dk_at dksX0_plays_1 16 rfl rfl)
theorem dX0_plays_42 : decode cX0_plays 42 = .ok (.iconst 1, 1) := dk_4 (dk_at dksX0_plays_1 19 rfl rfl)
theorem dX0_plays_43 : decode cX0_plays 43 = .ok (.goto 4, 3) := dk_167 0 4 (dk_at dksX0_plays_1 20 rfl rfl)
theorem dX0_plays_46 : decode cX0_plays 46 = .ok (.iconst 0, 1) := dk_3 (dk_at dksX0_plays_1 23 rfl rfl)
theorem dX0_plays_47 : decode cX0_plays 47 = .ok (.istore 5, 2) := dk_54 5 (dk_at dksX0_plays_2 0 rfl rfl)
theorem dX0_plays_49 : decode cX0_plays 49 = .ok (.iload 5, 2) := dk_21 5 (dk_at dksX0_plays_2 2 rfl rfl)
theorem dX0_plays_51 : decode cX0_plays 51 = .ok (.ifCond .eq 7, 3) := dk_153 0 7 (dk_at dksX0_plays_2 4 rfl rfl)
theorem dX0_plays_54 : decode cX0_plays 54 = .ok (.iload_n 2, 1) := dk_28 (dk_at dksX0_plays_2 7 rfl rfl)
theorem dX0_plays_55 : decode cX0_plays 55 = .ok (.goto 4, 3) := dk_167 0 4 (dk_at dksX0_plays_2 8 rfl rfl)
theorem dX0_plays_58 : decode cX0_plays 58 = .ok (.iload_n 3, 1) := dk_29 (dk_at dksX0_plays_2 11 rfl rfl)
theorem dX0_plays_59 : decode cX0_plays 59 = .ok (.istore 6, 2) := dk_54 6 (dk_at dksX0_plays_2 12 rfl rfl)
theorem dX0_plays_61 : decode cX0_plays 61 = .ok (.iload 5, 2) := dk_21 5 (dk_at dksX0_plays_2 14 rfl rfl)
theorem dX0_plays_63 : decode cX0_plays 63 = .ok (.ifCond .eq 7, 3) := dk_153 0 7 (dk_at dksX0_plays_2 16 rfl rfl)
theorem dX0_plays_66 : decode cX0_plays 66 = .ok (.iconst (-1), 1) := dk_2 (dk_at dksX0_plays_2 19 rfl rfl)
theorem dX0_plays_67 : decode cX0_plays 67 = .ok (.goto 4, 3) := dk_167 0 4 (dk_at dksX0_plays_2 20 rfl rfl)
theorem dX0_plays_70 : decode cX0_plays 70 = .ok (.iconst 1, 1) := dk_4 (dk_at dksX0_plays_2 23 rfl rfl)
theorem dX0_plays_71 : decode cX0_plays 71 = .ok (.istore 7, 2) := dk_54 7 (dk_at dksX0_plays_3 0 rfl rfl)
theorem dX0_plays_73 : decode cX0_plays 73 = .ok (.iconst 0, 1) := dk_3 (dk_at dksX0_plays_3 2 rfl rfl)
theorem dX0_plays_74 : decode cX0_plays 74 = .ok (.istore 8, 2) := dk_54 8 (dk_at dksX0_plays_3 3 rfl rfl)
theorem dX0_plays_76 : decode cX0_plays 76 = .ok (.iload 8, 2) := dk_21 8 (dk_at dksX0_plays_3 5 rfl rfl)
theorem dX0_plays_78 : decode cX0_plays 78 = .ok (.iconst 2, 1) := dk_5 (dk_at dksX0_plays_3 7 rfl rfl)
theorem dX0_plays_79 : decode cX0_plays 79 = .ok (.if_icmp .gt 99, 3) := dk_163 0 99 (dk_at dksX0_plays_3 8 rfl rfl)
theorem dX0_plays_82 : decode cX0_plays 82 = .ok (.aload_n 0, 1) := dk_42 (dk_at dksX0_plays_3 11 rfl rfl)
theorem dX0_plays_83 : decode cX0_plays 83 = .ok (.getfield 41, 3) := dk_180 0 41 (dk_at dksX0_plays_3 12 rfl rfl)
theorem dX0_plays_86 : decode cX0_plays 86 = .ok (.bipush 20, 2) := dk_16 20 (dk_at dksX0_plays_3 15 rfl rfl)
theorem dX0_plays_88 : decode cX0_plays 88 = .ok (.iload_n 1, 1) := dk_27 (dk_at dksX0_plays_3 17 rfl rfl)
theorem dX0_plays_89 : decode cX0_plays 89 = .ok (.imul, 1) := dk_104 (dk_at dksX0_plays_3 18 rfl rfl)
theorem dX0_plays_90 : decode cX0_plays 90 = .ok (.iconst 2, 1) := dk_5 (dk_at dksX0_plays_3 19 rfl rfl)
theorem dX0_plays_91 : decode cX0_plays 91 = .ok (.iadd, 1) := dk_96 (dk_at dksX0_plays_3 20 rfl rfl)
theorem dX0_plays_92 : decode cX0_plays 92 = .ok (.iload 6, 2) := dk_21 6 (dk_at dksX0_plays_3 21 rfl rfl)
theorem dX0_plays_94 : decode cX0_plays 94 = .ok (.iadd, 1) := dk_96 (dk_at dksX0_plays_3 23 rfl rfl)
theorem dX0_plays_95 : decode cX0_plays 95 = .ok (.iaload, 1) := dk_46 (dk_at dksX0_plays_4 0 rfl rfl)
theorem dX0_plays_96 : decode cX0_plays 96 = .ok (.iload 8, 2) := dk_21 8 (dk_at dksX0_plays_4 1 rfl rfl)
theorem dX0_plays_98 : decode cX0_plays 98 = .ok (.iadd, 1) := dk_96 (dk_at dksX0_plays_4 3 rfl rfl)
theorem dX0_plays_99 : decode cX0_plays 99 = .ok (.bipush 20, 2) := dk_16 20 (dk_at dksX0_plays_4 4 rfl rfl)
theorem dX0_plays_101 : decode cX0_plays 101 = .ok (.if_icmp .gt 77, 3) := dk_163 0 77 (dk_at dksX0_plays_4 6 rfl rfl)
theorem dX0_plays_104 : decode cX0_plays 104 = .ok (.aload_n 0, 1) := dk_42 (dk_at dksX0_plays_4 9 rfl rfl)
theorem dX0_plays_105 : decode cX0_plays 105 = .ok (.iload_n 1, 1) := dk_27 (dk_at dksX0_plays_4 10 rfl rfl)
theorem dX0_plays_106 : decode cX0_plays 106 = .ok (.iload_n 1, 1) := dk_27 (dk_at dksX0_plays_4 11 rfl rfl)
theorem dX0_plays_107 : decode cX0_plays 107 = .ok (.iconst 1, 1) := dk_4 (dk_at dksX0_plays_4 12 rfl rfl)
theorem dX0_plays_108 : decode cX0_plays 108 = .ok (.iadd, 1) := dk_96 (dk_at dksX0_plays_4 13 rfl rfl)
theorem dX0_plays_109 : decode cX0_plays 109 = .ok (.invokevirtual 242, 3) := dk_182 0 242 (dk_at dksX0_plays_4 14 rfl rfl)
theorem dX0_plays_112 : decode cX0_plays 112 = .ok (.aload_n 0, 1) := dk_42 (dk_at dksX0_plays_4 17 rfl rfl)
theorem dX0_plays_113 : decode cX0_plays 113 = .ok (.getfield 41, 3) := dk_180 0 41 (dk_at dksX0_plays_4 18 rfl rfl)
theorem dX0_plays_116 : decode cX0_plays 116 = .ok (.bipush 20, 2) := dk_16 20 (dk_at dksX0_plays_4 21 rfl rfl)
theorem dX0_plays_118 : decode cX0_plays 118 = .ok (.iload_n 1, 1) := dk_27 (dk_at dksX0_plays_4 23 rfl rfl)
theorem dX0_plays_119 : decode cX0_plays 119 = .ok (.iconst 1, 1) := dk_4 (dk_at dksX0_plays_5 0 rfl rfl)
theorem dX0_plays_120 : decode cX0_plays 120 = .ok (.iadd, 1) := dk_96 (dk_at dksX0_plays_5 1 rfl rfl)
theorem dX0_plays_121 : decode cX0_plays 121 = .ok (.imul, 1) := dk_104 (dk_at dksX0_plays_5 2 rfl rfl)
theorem dX0_plays_122 : decode cX0_plays 122 = .ok (.iconst 2, 1) := dk_5 (dk_at dksX0_plays_5 3 rfl rfl)
theorem dX0_plays_123 : decode cX0_plays 123 = .ok (.iadd, 1) := dk_96 (dk_at dksX0_plays_5 4 rfl rfl)
theorem dX0_plays_124 : decode cX0_plays 124 = .ok (.iload 6, 2) := dk_21 6 (dk_at dksX0_plays_5 5 rfl rfl)
theorem dX0_plays_126 : decode cX0_plays 126 = .ok (.iadd, 1) := dk_96 (dk_at dksX0_plays_5 7 rfl rfl)
theorem dX0_plays_127 : decode cX0_plays 127 = .ok (.dup2, 1) := dk_92 (dk_at dksX0_plays_5 8 rfl rfl)
theorem dX0_plays_128 : decode cX0_plays 128 = .ok (.iaload, 1) := dk_46 (dk_at dksX0_plays_5 9 rfl rfl)
theorem dX0_plays_129 : decode cX0_plays 129 = .ok (.iload 8, 2) := dk_21 8 (dk_at dksX0_plays_5 10 rfl rfl)
theorem dX0_plays_131 : decode cX0_plays 131 = .ok (.iadd, 1) := dk_96 (dk_at dksX0_plays_5 12 rfl rfl)
theorem dX0_plays_132 : decode cX0_plays 132 = .ok (.iastore, 1) := dk_79 (dk_at dksX0_plays_5 13 rfl rfl)
theorem dX0_plays_133 : decode cX0_plays 133 = .ok (.aload_n 0, 1) := dk_42 (dk_at dksX0_plays_5 14 rfl rfl)
theorem dX0_plays_134 : decode cX0_plays 134 = .ok (.iload_n 1, 1) := dk_27 (dk_at dksX0_plays_5 15 rfl rfl)
theorem dX0_plays_135 : decode cX0_plays 135 = .ok (.iconst 1, 1) := dk_4 (dk_at dksX0_plays_5 16 rfl rfl)
theorem dX0_plays_136 : decode cX0_plays 136 = .ok (.iadd, 1) := dk_96 (dk_at dksX0_plays_5 17 rfl rfl)
theorem dX0_plays_137 : decode cX0_plays 137 = .ok (.iload_n 2, 1) := dk_28 (dk_at dksX0_plays_5 18 rfl rfl)
theorem dX0_plays_138 : decode cX0_plays 138 = .ok (.iload_n 3, 1) := dk_29 (dk_at dksX0_plays_5 19 rfl rfl)
theorem dX0_plays_139 : decode cX0_plays 139 = .ok (.iload 4, 2) := dk_21 4 (dk_at dksX0_plays_5 20 rfl rfl)
theorem dX0_plays_141 : decode cX0_plays 141 = .ok (.iconst 1, 1) := dk_4 (dk_at dksX0_plays_5 22 rfl rfl)
theorem dX0_plays_142 : decode cX0_plays 142 = .ok (.isub, 1) := dk_100 (dk_at dksX0_plays_5 23 rfl rfl)
theorem dX0_plays_143 : decode cX0_plays 143 = .ok (.invokevirtual 300, 3) := dk_182 1 44 (dk_at dksX0_plays_6 0 rfl rfl)
theorem dX0_plays_146 : decode cX0_plays 146 = .ok (.istore 9, 2) := dk_54 9 (dk_at dksX0_plays_6 3 rfl rfl)
theorem dX0_plays_148 : decode cX0_plays 148 = .ok (.iload 5, 2) := dk_21 5 (dk_at dksX0_plays_6 5 rfl rfl)
theorem dX0_plays_150 : decode cX0_plays 150 = .ok (.ifCond .eq 13, 3) := dk_153 0 13 (dk_at dksX0_plays_6 7 rfl rfl)
theorem dX0_plays_153 : decode cX0_plays 153 = .ok (.iload 7, 2) := dk_21 7 (dk_at dksX0_plays_6 10 rfl rfl)
theorem dX0_plays_155 : decode cX0_plays 155 = .ok (.iload 9, 2) := dk_21 9 (dk_at dksX0_plays_6 12 rfl rfl)
theorem dX0_plays_157 : decode cX0_plays 157 = .ok (.invokestatic 159, 3) := dk_184 0 159 (dk_at dksX0_plays_6 14 rfl rfl)
theorem dX0_plays_160 : decode cX0_plays 160 = .ok (.goto 10, 3) := dk_167 0 10 (dk_at dksX0_plays_6 17 rfl rfl)
theorem dX0_plays_163 : decode cX0_plays 163 = .ok (.iload 7, 2) := dk_21 7 (dk_at dksX0_plays_6 20 rfl rfl)
theorem dX0_plays_165 : decode cX0_plays 165 = .ok (.iload 9, 2) := dk_21 9 (dk_at dksX0_plays_6 22 rfl rfl)
theorem dX0_plays_167 : decode cX0_plays 167 = .ok (.invokestatic 274, 3) := dk_184 1 18 (dk_at dksX0_plays_7 0 rfl rfl)
theorem dX0_plays_170 : decode cX0_plays 170 = .ok (.istore 7, 2) := dk_54 7 (dk_at dksX0_plays_7 3 rfl rfl)
theorem dX0_plays_172 : decode cX0_plays 172 = .ok (.iinc 8 1, 3) := dk_132 8 1 (dk_at dksX0_plays_7 5 rfl rfl)
theorem dX0_plays_175 : decode cX0_plays 175 = .ok (.goto (-99), 3) := dk_167 255 157 (dk_at dksX0_plays_7 8 rfl rfl)
theorem dX0_plays_178 : decode cX0_plays 178 = .ok (.iload 7, 2) := dk_21 7 (dk_at dksX0_plays_7 11 rfl rfl)
theorem dX0_plays_180 : decode cX0_plays 180 = .ok (.ireturn, 1) := dk_172 (dk_at dksX0_plays_7 13 rfl rfl)
abbrev cX0_odds : ByteArray := prog_1_method_78_code
def yX0_odds : MethodName := ⟨RX0, "odds", "(II)I"⟩
def dkwX0_odds_3 : List UInt8 := [42, 182, 1, 54, 182, 1, 40, 172]
abbrev dktX0_odds_3 : List UInt8 := dkwX0_odds_3 ++ []
def dkwX0_odds_2 : List UInt8 := [160, 0, 13, 42, 21, 5, 28, 182, 1, 50, 167, 0, 4, 9, 97, 66, 132, 5, 1, 167, 255, 217, 42, 33]
abbrev dktX0_odds_2 : List UInt8 := dkwX0_odds_2 ++ dktX0_odds_3
def dkwX0_odds_1 : List UInt8 := [54, 5, 21, 5, 4, 42, 180, 0, 116, 120, 162, 0, 34, 33, 42, 3, 21, 5, 182, 0, 152, 27]
abbrev dktX0_odds_1 : List UInt8 := dkwX0_odds_1 ++ dktX0_odds_2
def dkwX0_odds_0 : List UInt8 := [42, 27, 182, 0, 208, 153, 0, 13, 28, 3, 16, 12, 184, 0, 65, 154, 0, 5, 2, 172, 9, 66, 3]
abbrev dktX0_odds_0 : List UInt8 := dkwX0_odds_0 ++ dktX0_odds_1
theorem dksX0_odds_0 : cX0_odds.data.toList.drop 0 = dktX0_odds_0 := by decide +kernel
theorem dksX0_odds_1 : cX0_odds.data.toList.drop 23 = dktX0_odds_1 := dk_seg dksX0_odds_0 23 rfl rfl
theorem dksX0_odds_2 : cX0_odds.data.toList.drop 45 = dktX0_odds_2 := dk_seg dksX0_odds_1 22 rfl rfl
theorem dksX0_odds_3 : cX0_odds.data.toList.drop 69 = dktX0_odds_3 := dk_seg dksX0_odds_2 24 rfl rfl
theorem dX0_odds_0 : decode cX0_odds 0 = .ok (.aload_n 0, 1) := dk_42 (dk_at dksX0_odds_0 0 rfl rfl)
theorem dX0_odds_1 : decode cX0_odds 1 = .ok (.iload_n 1, 1) := dk_27 (dk_at dksX0_odds_0 1 rfl rfl)
theorem dX0_odds_2 : decode cX0_odds 2 = .ok (.invokevirtual 208, 3) := dk_182 0 208 (dk_at dksX0_odds_0 2 rfl rfl)
theorem dX0_odds_5 : decode cX0_odds 5 = .ok (.ifCond .eq 13, 3) := dk_153 0 13 (dk_at dksX0_odds_0 5 rfl rfl)
theorem dX0_odds_8 : decode cX0_odds 8 = .ok (.iload_n 2, 1) := dk_28 (dk_at dksX0_odds_0 8 rfl rfl)
theorem dX0_odds_9 : decode cX0_odds 9 = .ok (.iconst 0, 1) := dk_3 (dk_at dksX0_odds_0 9 rfl rfl)
theorem dX0_odds_10 : decode cX0_odds 10 = .ok (.bipush 12, 2) := dk_16 12 (dk_at dksX0_odds_0 10 rfl rfl)
theorem dX0_odds_12 : decode cX0_odds 12 = .ok (.invokestatic 65, 3) := dk_184 0 65 (dk_at dksX0_odds_0 12 rfl rfl)
theorem dX0_odds_15 : decode cX0_odds 15 = .ok (.ifCond .ne 5, 3) := dk_154 0 5 (dk_at dksX0_odds_0 15 rfl rfl)
theorem dX0_odds_18 : decode cX0_odds 18 = .ok (.iconst (-1), 1) := dk_2 (dk_at dksX0_odds_0 18 rfl rfl)
theorem dX0_odds_19 : decode cX0_odds 19 = .ok (.ireturn, 1) := dk_172 (dk_at dksX0_odds_0 19 rfl rfl)
theorem dX0_odds_20 : decode cX0_odds 20 = .ok (.lconst 0, 1) := dk_9 (dk_at dksX0_odds_0 20 rfl rfl)
theorem dX0_odds_21 : decode cX0_odds 21 = .ok (.lstore_n 3, 1) := dk_66 (dk_at dksX0_odds_0 21 rfl rfl)
theorem dX0_odds_22 : decode cX0_odds 22 = .ok (.iconst 0, 1) := dk_3 (dk_at dksX0_odds_0 22 rfl rfl)
theorem dX0_odds_23 : decode cX0_odds 23 = .ok (.istore 5, 2) := dk_54 5 (dk_at dksX0_odds_1 0 rfl rfl)
theorem dX0_odds_25 : decode cX0_odds 25 = .ok (.iload 5, 2) := dk_21 5 (dk_at dksX0_odds_1 2 rfl rfl)
theorem dX0_odds_27 : decode cX0_odds 27 = .ok (.iconst 1, 1) := dk_4 (dk_at dksX0_odds_1 4 rfl rfl)
theorem dX0_odds_28 : decode cX0_odds 28 = .ok (.aload_n 0, 1) := dk_42 (dk_at dksX0_odds_1 5 rfl rfl)
theorem dX0_odds_29 : decode cX0_odds 29 = .ok (.getfield 116, 3) := dk_180 0 116 (dk_at dksX0_odds_1 6 rfl rfl)
theorem dX0_odds_32 : decode cX0_odds 32 = .ok (.ishl, 1) := dk_120 (dk_at dksX0_odds_1 9 rfl rfl)
theorem dX0_odds_33 : decode cX0_odds 33 = .ok (.if_icmp .ge 34, 3) := dk_162 0 34 (dk_at dksX0_odds_1 10 rfl rfl)
theorem dX0_odds_36 : decode cX0_odds 36 = .ok (.lload_n 3, 1) := dk_33 (dk_at dksX0_odds_1 13 rfl rfl)
theorem dX0_odds_37 : decode cX0_odds 37 = .ok (.aload_n 0, 1) := dk_42 (dk_at dksX0_odds_1 14 rfl rfl)
theorem dX0_odds_38 : decode cX0_odds 38 = .ok (.iconst 0, 1) := dk_3 (dk_at dksX0_odds_1 15 rfl rfl)
theorem dX0_odds_39 : decode cX0_odds 39 = .ok (.iload 5, 2) := dk_21 5 (dk_at dksX0_odds_1 16 rfl rfl)
theorem dX0_odds_41 : decode cX0_odds 41 = .ok (.invokevirtual 152, 3) := dk_182 0 152 (dk_at dksX0_odds_1 18 rfl rfl)
theorem dX0_odds_44 : decode cX0_odds 44 = .ok (.iload_n 1, 1) := dk_27 (dk_at dksX0_odds_1 21 rfl rfl)
theorem dX0_odds_45 : decode cX0_odds 45 = .ok (.if_icmp .ne 13, 3) := dk_160 0 13 (dk_at dksX0_odds_2 0 rfl rfl)
theorem dX0_odds_48 : decode cX0_odds 48 = .ok (.aload_n 0, 1) := dk_42 (dk_at dksX0_odds_2 3 rfl rfl)
theorem dX0_odds_49 : decode cX0_odds 49 = .ok (.iload 5, 2) := dk_21 5 (dk_at dksX0_odds_2 4 rfl rfl)
theorem dX0_odds_51 : decode cX0_odds 51 = .ok (.iload_n 2, 1) := dk_28 (dk_at dksX0_odds_2 6 rfl rfl)
theorem dX0_odds_52 : decode cX0_odds 52 = .ok (.invokevirtual 306, 3) := dk_182 1 50 (dk_at dksX0_odds_2 7 rfl rfl)
theorem dX0_odds_55 : decode cX0_odds 55 = .ok (.goto 4, 3) := dk_167 0 4 (dk_at dksX0_odds_2 10 rfl rfl)
theorem dX0_odds_58 : decode cX0_odds 58 = .ok (.lconst 0, 1) := dk_9 (dk_at dksX0_odds_2 13 rfl rfl)
theorem dX0_odds_59 : decode cX0_odds 59 = .ok (.ladd, 1) := dk_97 (dk_at dksX0_odds_2 14 rfl rfl)
theorem dX0_odds_60 : decode cX0_odds 60 = .ok (.lstore_n 3, 1) := dk_66 (dk_at dksX0_odds_2 15 rfl rfl)
theorem dX0_odds_61 : decode cX0_odds 61 = .ok (.iinc 5 1, 3) := dk_132 5 1 (dk_at dksX0_odds_2 16 rfl rfl)
theorem dX0_odds_64 : decode cX0_odds 64 = .ok (.goto (-39), 3) := dk_167 255 217 (dk_at dksX0_odds_2 19 rfl rfl)
theorem dX0_odds_67 : decode cX0_odds 67 = .ok (.aload_n 0, 1) := dk_42 (dk_at dksX0_odds_2 22 rfl rfl)
theorem dX0_odds_68 : decode cX0_odds 68 = .ok (.lload_n 3, 1) := dk_33 (dk_at dksX0_odds_2 23 rfl rfl)
theorem dX0_odds_69 : decode cX0_odds 69 = .ok (.aload_n 0, 1) := dk_42 (dk_at dksX0_odds_3 0 rfl rfl)
theorem dX0_odds_70 : decode cX0_odds 70 = .ok (.invokevirtual 310, 3) := dk_182 1 54 (dk_at dksX0_odds_3 1 rfl rfl)
theorem dX0_odds_73 : decode cX0_odds 73 = .ok (.invokevirtual 296, 3) := dk_182 1 40 (dk_at dksX0_odds_3 4 rfl rfl)
theorem dX0_odds_76 : decode cX0_odds 76 = .ok (.ireturn, 1) := dk_172 (dk_at dksX0_odds_3 7 rfl rfl)
abbrev cX0_partOf : ByteArray := prog_1_method_76_code
def yX0_partOf : MethodName := ⟨RX0, "partOf", "(II)J"⟩
def dkwX0_partOf_1 : List UInt8 := [28, 133, 167, 0, 8, 16, 12, 28, 100, 133, 105, 66, 132, 5, 1, 167, 255, 222, 33, 173]
abbrev dktX0_partOf_1 : List UInt8 := dkwX0_partOf_1 ++ []
def dkwX0_partOf_0 : List UInt8 := [10, 66, 3, 54, 5, 21, 5, 42, 180, 0, 116, 162, 0, 31, 33, 27, 21, 5, 184, 0, 141, 153, 0, 8]
abbrev dktX0_partOf_0 : List UInt8 := dkwX0_partOf_0 ++ dktX0_partOf_1
theorem dksX0_partOf_0 : cX0_partOf.data.toList.drop 0 = dktX0_partOf_0 := by decide +kernel
theorem dksX0_partOf_1 : cX0_partOf.data.toList.drop 24 = dktX0_partOf_1 := dk_seg dksX0_partOf_0 24 rfl rfl
theorem dX0_partOf_0 : decode cX0_partOf 0 = .ok (.lconst 1, 1) := dk_10 (dk_at dksX0_partOf_0 0 rfl rfl)
theorem dX0_partOf_1 : decode cX0_partOf 1 = .ok (.lstore_n 3, 1) := dk_66 (dk_at dksX0_partOf_0 1 rfl rfl)
theorem dX0_partOf_2 : decode cX0_partOf 2 = .ok (.iconst 0, 1) := dk_3 (dk_at dksX0_partOf_0 2 rfl rfl)
theorem dX0_partOf_3 : decode cX0_partOf 3 = .ok (.istore 5, 2) := dk_54 5 (dk_at dksX0_partOf_0 3 rfl rfl)
theorem dX0_partOf_5 : decode cX0_partOf 5 = .ok (.iload 5, 2) := dk_21 5 (dk_at dksX0_partOf_0 5 rfl rfl)
theorem dX0_partOf_7 : decode cX0_partOf 7 = .ok (.aload_n 0, 1) := dk_42 (dk_at dksX0_partOf_0 7 rfl rfl)
theorem dX0_partOf_8 : decode cX0_partOf 8 = .ok (.getfield 116, 3) := dk_180 0 116 (dk_at dksX0_partOf_0 8 rfl rfl)
theorem dX0_partOf_11 : decode cX0_partOf 11 = .ok (.if_icmp .ge 31, 3) := dk_162 0 31 (dk_at dksX0_partOf_0 11 rfl rfl)
theorem dX0_partOf_14 : decode cX0_partOf 14 = .ok (.lload_n 3, 1) := dk_33 (dk_at dksX0_partOf_0 14 rfl rfl)
theorem dX0_partOf_15 : decode cX0_partOf 15 = .ok (.iload_n 1, 1) := dk_27 (dk_at dksX0_partOf_0 15 rfl rfl)
theorem dX0_partOf_16 : decode cX0_partOf 16 = .ok (.iload 5, 2) := dk_21 5 (dk_at dksX0_partOf_0 16 rfl rfl)
theorem dX0_partOf_18 : decode cX0_partOf 18 = .ok (.invokestatic 141, 3) := dk_184 0 141 (dk_at dksX0_partOf_0 18 rfl rfl)
theorem dX0_partOf_21 : decode cX0_partOf 21 = .ok (.ifCond .eq 8, 3) := dk_153 0 8 (dk_at dksX0_partOf_0 21 rfl rfl)
theorem dX0_partOf_24 : decode cX0_partOf 24 = .ok (.iload_n 2, 1) := dk_28 (dk_at dksX0_partOf_1 0 rfl rfl)
theorem dX0_partOf_25 : decode cX0_partOf 25 = .ok (.i2l, 1) := dk_133 (dk_at dksX0_partOf_1 1 rfl rfl)
theorem dX0_partOf_26 : decode cX0_partOf 26 = .ok (.goto 8, 3) := dk_167 0 8 (dk_at dksX0_partOf_1 2 rfl rfl)
theorem dX0_partOf_29 : decode cX0_partOf 29 = .ok (.bipush 12, 2) := dk_16 12 (dk_at dksX0_partOf_1 5 rfl rfl)
theorem dX0_partOf_31 : decode cX0_partOf 31 = .ok (.iload_n 2, 1) := dk_28 (dk_at dksX0_partOf_1 7 rfl rfl)
theorem dX0_partOf_32 : decode cX0_partOf 32 = .ok (.isub, 1) := dk_100 (dk_at dksX0_partOf_1 8 rfl rfl)
theorem dX0_partOf_33 : decode cX0_partOf 33 = .ok (.i2l, 1) := dk_133 (dk_at dksX0_partOf_1 9 rfl rfl)
theorem dX0_partOf_34 : decode cX0_partOf 34 = .ok (.lmul, 1) := dk_105 (dk_at dksX0_partOf_1 10 rfl rfl)
theorem dX0_partOf_35 : decode cX0_partOf 35 = .ok (.lstore_n 3, 1) := dk_66 (dk_at dksX0_partOf_1 11 rfl rfl)
theorem dX0_partOf_36 : decode cX0_partOf 36 = .ok (.iinc 5 1, 3) := dk_132 5 1 (dk_at dksX0_partOf_1 12 rfl rfl)
theorem dX0_partOf_39 : decode cX0_partOf 39 = .ok (.goto (-34), 3) := dk_167 255 222 (dk_at dksX0_partOf_1 15 rfl rfl)
theorem dX0_partOf_42 : decode cX0_partOf 42 = .ok (.lload_n 3, 1) := dk_33 (dk_at dksX0_partOf_1 18 rfl rfl)
theorem dX0_partOf_43 : decode cX0_partOf 43 = .ok (.lreturn, 1) := dk_173 (dk_at dksX0_partOf_1 19 rfl rfl)
abbrev cX0_whole : ByteArray := prog_1_method_77_code
def yX0_whole : MethodName := ⟨RX0, "whole", "()J"⟩
def dkwX0_whole_1 : List UInt8 := [31, 173]
abbrev dktX0_whole_1 : List UInt8 := dkwX0_whole_1 ++ []
def dkwX0_whole_0 : List UInt8 := [10, 64, 3, 62, 29, 42, 180, 0, 116, 162, 0, 15, 31, 20, 1, 48, 105, 64, 132, 3, 1, 167, 255, 239]
abbrev dktX0_whole_0 : List UInt8 := dkwX0_whole_0 ++ dktX0_whole_1
theorem dksX0_whole_0 : cX0_whole.data.toList.drop 0 = dktX0_whole_0 := by decide +kernel
theorem dksX0_whole_1 : cX0_whole.data.toList.drop 24 = dktX0_whole_1 := dk_seg dksX0_whole_0 24 rfl rfl
theorem dX0_whole_0 : decode cX0_whole 0 = .ok (.lconst 1, 1) := dk_10 (dk_at dksX0_whole_0 0 rfl rfl)
theorem dX0_whole_1 : decode cX0_whole 1 = .ok (.lstore_n 1, 1) := dk_64 (dk_at dksX0_whole_0 1 rfl rfl)
theorem dX0_whole_2 : decode cX0_whole 2 = .ok (.iconst 0, 1) := dk_3 (dk_at dksX0_whole_0 2 rfl rfl)
theorem dX0_whole_3 : decode cX0_whole 3 = .ok (.istore_n 3, 1) := dk_62 (dk_at dksX0_whole_0 3 rfl rfl)
theorem dX0_whole_4 : decode cX0_whole 4 = .ok (.iload_n 3, 1) := dk_29 (dk_at dksX0_whole_0 4 rfl rfl)
theorem dX0_whole_5 : decode cX0_whole 5 = .ok (.aload_n 0, 1) := dk_42 (dk_at dksX0_whole_0 5 rfl rfl)
theorem dX0_whole_6 : decode cX0_whole 6 = .ok (.getfield 116, 3) := dk_180 0 116 (dk_at dksX0_whole_0 6 rfl rfl)
theorem dX0_whole_9 : decode cX0_whole 9 = .ok (.if_icmp .ge 15, 3) := dk_162 0 15 (dk_at dksX0_whole_0 9 rfl rfl)
theorem dX0_whole_12 : decode cX0_whole 12 = .ok (.lload_n 1, 1) := dk_31 (dk_at dksX0_whole_0 12 rfl rfl)
theorem dX0_whole_13 : decode cX0_whole 13 = .ok (.ldc2_w 304, 3) := dk_20 1 48 (dk_at dksX0_whole_0 13 rfl rfl)
theorem dX0_whole_16 : decode cX0_whole 16 = .ok (.lmul, 1) := dk_105 (dk_at dksX0_whole_0 16 rfl rfl)
theorem dX0_whole_17 : decode cX0_whole 17 = .ok (.lstore_n 1, 1) := dk_64 (dk_at dksX0_whole_0 17 rfl rfl)
theorem dX0_whole_18 : decode cX0_whole 18 = .ok (.iinc 3 1, 3) := dk_132 3 1 (dk_at dksX0_whole_0 18 rfl rfl)
theorem dX0_whole_21 : decode cX0_whole 21 = .ok (.goto (-17), 3) := dk_167 255 239 (dk_at dksX0_whole_0 21 rfl rfl)
theorem dX0_whole_24 : decode cX0_whole 24 = .ok (.lload_n 1, 1) := dk_31 (dk_at dksX0_whole_1 0 rfl rfl)
theorem dX0_whole_25 : decode cX0_whole 25 = .ok (.lreturn, 1) := dk_173 (dk_at dksX0_whole_1 1 rfl rfl)
abbrev cX0_mid : ByteArray := prog_1_method_80_code
def yX0_mid : MethodName := ⟨RX0, "mid", "(II)I"⟩
def dkwX0_mid_2 : List UInt8 := [182, 1, 54, 182, 1, 40, 172]
abbrev dktX0_mid_2 : List UInt8 := dkwX0_mid_2 ++ []
def dkwX0_mid_1 : List UInt8 := [167, 0, 4, 3, 182, 0, 238, 62, 29, 156, 0, 7, 29, 167, 0, 17, 42, 42, 27, 28, 182, 1, 58, 42]
abbrev dktX0_mid_1 : List UInt8 := dkwX0_mid_1 ++ dktX0_mid_2
def dkwX0_mid_0 : List UInt8 := [42, 27, 3, 16, 9, 184, 0, 65, 153, 0, 17, 28, 3, 16, 12, 184, 0, 65, 153, 0, 7, 4]
abbrev dktX0_mid_0 : List UInt8 := dkwX0_mid_0 ++ dktX0_mid_1
theorem dksX0_mid_0 : cX0_mid.data.toList.drop 0 = dktX0_mid_0 := by decide +kernel
theorem dksX0_mid_1 : cX0_mid.data.toList.drop 22 = dktX0_mid_1 := dk_seg dksX0_mid_0 22 rfl rfl
theorem dksX0_mid_2 : cX0_mid.data.toList.drop 46 = dktX0_mid_2 := dk_seg dksX0_mid_1 24 rfl rfl
theorem dX0_mid_0 : decode cX0_mid 0 = .ok (.aload_n 0, 1) := dk_42 (dk_at dksX0_mid_0 0 rfl rfl)
theorem dX0_mid_1 : decode cX0_mid 1 = .ok (.iload_n 1, 1) := dk_27 (dk_at dksX0_mid_0 1 rfl rfl)
theorem dX0_mid_2 : decode cX0_mid 2 = .ok (.iconst 0, 1) := dk_3 (dk_at dksX0_mid_0 2 rfl rfl)
theorem dX0_mid_3 : decode cX0_mid 3 = .ok (.bipush 9, 2) := dk_16 9 (dk_at dksX0_mid_0 3 rfl rfl)
theorem dX0_mid_5 : decode cX0_mid 5 = .ok (.invokestatic 65, 3) := dk_184 0 65 (dk_at dksX0_mid_0 5 rfl rfl)
theorem dX0_mid_8 : decode cX0_mid 8 = .ok (.ifCond .eq 17, 3) := dk_153 0 17 (dk_at dksX0_mid_0 8 rfl rfl)
theorem dX0_mid_11 : decode cX0_mid 11 = .ok (.iload_n 2, 1) := dk_28 (dk_at dksX0_mid_0 11 rfl rfl)
theorem dX0_mid_12 : decode cX0_mid 12 = .ok (.iconst 0, 1) := dk_3 (dk_at dksX0_mid_0 12 rfl rfl)
theorem dX0_mid_13 : decode cX0_mid 13 = .ok (.bipush 12, 2) := dk_16 12 (dk_at dksX0_mid_0 13 rfl rfl)
theorem dX0_mid_15 : decode cX0_mid 15 = .ok (.invokestatic 65, 3) := dk_184 0 65 (dk_at dksX0_mid_0 15 rfl rfl)
theorem dX0_mid_18 : decode cX0_mid 18 = .ok (.ifCond .eq 7, 3) := dk_153 0 7 (dk_at dksX0_mid_0 18 rfl rfl)
theorem dX0_mid_21 : decode cX0_mid 21 = .ok (.iconst 1, 1) := dk_4 (dk_at dksX0_mid_0 21 rfl rfl)
theorem dX0_mid_22 : decode cX0_mid 22 = .ok (.goto 4, 3) := dk_167 0 4 (dk_at dksX0_mid_1 0 rfl rfl)
theorem dX0_mid_25 : decode cX0_mid 25 = .ok (.iconst 0, 1) := dk_3 (dk_at dksX0_mid_1 3 rfl rfl)
theorem dX0_mid_26 : decode cX0_mid 26 = .ok (.invokevirtual 238, 3) := dk_182 0 238 (dk_at dksX0_mid_1 4 rfl rfl)
theorem dX0_mid_29 : decode cX0_mid 29 = .ok (.istore_n 3, 1) := dk_62 (dk_at dksX0_mid_1 7 rfl rfl)
theorem dX0_mid_30 : decode cX0_mid 30 = .ok (.iload_n 3, 1) := dk_29 (dk_at dksX0_mid_1 8 rfl rfl)
theorem dX0_mid_31 : decode cX0_mid 31 = .ok (.ifCond .ge 7, 3) := dk_156 0 7 (dk_at dksX0_mid_1 9 rfl rfl)
theorem dX0_mid_34 : decode cX0_mid 34 = .ok (.iload_n 3, 1) := dk_29 (dk_at dksX0_mid_1 12 rfl rfl)
theorem dX0_mid_35 : decode cX0_mid 35 = .ok (.goto 17, 3) := dk_167 0 17 (dk_at dksX0_mid_1 13 rfl rfl)
theorem dX0_mid_38 : decode cX0_mid 38 = .ok (.aload_n 0, 1) := dk_42 (dk_at dksX0_mid_1 16 rfl rfl)
theorem dX0_mid_39 : decode cX0_mid 39 = .ok (.aload_n 0, 1) := dk_42 (dk_at dksX0_mid_1 17 rfl rfl)
theorem dX0_mid_40 : decode cX0_mid 40 = .ok (.iload_n 1, 1) := dk_27 (dk_at dksX0_mid_1 18 rfl rfl)
theorem dX0_mid_41 : decode cX0_mid 41 = .ok (.iload_n 2, 1) := dk_28 (dk_at dksX0_mid_1 19 rfl rfl)
theorem dX0_mid_42 : decode cX0_mid 42 = .ok (.invokevirtual 314, 3) := dk_182 1 58 (dk_at dksX0_mid_1 20 rfl rfl)
theorem dX0_mid_45 : decode cX0_mid 45 = .ok (.aload_n 0, 1) := dk_42 (dk_at dksX0_mid_1 23 rfl rfl)
theorem dX0_mid_46 : decode cX0_mid 46 = .ok (.invokevirtual 310, 3) := dk_182 1 54 (dk_at dksX0_mid_2 0 rfl rfl)
theorem dX0_mid_49 : decode cX0_mid 49 = .ok (.invokevirtual 296, 3) := dk_182 1 40 (dk_at dksX0_mid_2 3 rfl rfl)
theorem dX0_mid_52 : decode cX0_mid 52 = .ok (.ireturn, 1) := dk_172 (dk_at dksX0_mid_2 6 rfl rfl)
abbrev cX0_farSum : ByteArray := prog_1_method_79_code
def yX0_farSum : MethodName := ⟨RX0, "farSum", "(II)J"⟩
def dkwX0_farSum_3 : List UInt8 := [66, 132, 5, 1, 167, 255, 186, 33, 173]
abbrev dktX0_farSum_3 : List UInt8 := dkwX0_farSum_3 ++ []
def dkwX0_farSum_2 : List UInt8 := [21, 6, 96, 46, 54, 7, 33, 42, 21, 5, 28, 182, 1, 50, 21, 7, 27, 100, 184, 0, 129, 133, 105, 97]
abbrev dktX0_farSum_2 : List UInt8 := dkwX0_farSum_2 ++ dktX0_farSum_3
def dkwX0_farSum_1 : List UInt8 := [54, 6, 21, 6, 16, 247, 160, 0, 12, 42, 180, 0, 41, 4, 46, 167, 0, 13, 42, 180, 0, 41, 16, 8]
abbrev dktX0_farSum_1 : List UInt8 := dkwX0_farSum_1 ++ dktX0_farSum_2
def dkwX0_farSum_0 : List UInt8 := [9, 66, 3, 54, 5, 21, 5, 4, 42, 180, 0, 116, 120, 162, 0, 65, 42, 3, 21, 5, 182, 0, 152]
abbrev dktX0_farSum_0 : List UInt8 := dkwX0_farSum_0 ++ dktX0_farSum_1
theorem dksX0_farSum_0 : cX0_farSum.data.toList.drop 0 = dktX0_farSum_0 := by decide +kernel
theorem dksX0_farSum_1 : cX0_farSum.data.toList.drop 23 = dktX0_farSum_1 := dk_seg dksX0_farSum_0 23 rfl rfl
theorem dksX0_farSum_2 : cX0_farSum.data.toList.drop 47 = dktX0_farSum_2 := dk_seg dksX0_farSum_1 24 rfl rfl
theorem dksX0_farSum_3 : cX0_farSum.data.toList.drop 71 = dktX0_farSum_3 := dk_seg dksX0_farSum_2 24 rfl rfl
theorem dX0_farSum_0 : decode cX0_farSum 0 = .ok (.lconst 0, 1) := dk_9 (dk_at dksX0_farSum_0 0 rfl rfl)
theorem dX0_farSum_1 : decode cX0_farSum 1 = .ok (.lstore_n 3, 1) := dk_66 (dk_at dksX0_farSum_0 1 rfl rfl)
theorem dX0_farSum_2 : decode cX0_farSum 2 = .ok (.iconst 0, 1) := dk_3 (dk_at dksX0_farSum_0 2 rfl rfl)
theorem dX0_farSum_3 : decode cX0_farSum 3 = .ok (.istore 5, 2) := dk_54 5 (dk_at dksX0_farSum_0 3 rfl rfl)
theorem dX0_farSum_5 : decode cX0_farSum 5 = .ok (.iload 5, 2) := dk_21 5 (dk_at dksX0_farSum_0 5 rfl rfl)
theorem dX0_farSum_7 : decode cX0_farSum 7 = .ok (.iconst 1, 1) := dk_4 (dk_at dksX0_farSum_0 7 rfl rfl)
theorem dX0_farSum_8 : decode cX0_farSum 8 = .ok (.aload_n 0, 1) := dk_42 (dk_at dksX0_farSum_0 8 rfl rfl)
theorem dX0_farSum_9 : decode cX0_farSum 9 = .ok (.getfield 116, 3) := dk_180 0 116 (dk_at dksX0_farSum_0 9 rfl rfl)
theorem dX0_farSum_12 : decode cX0_farSum 12 = .ok (.ishl, 1) := dk_120 (dk_at dksX0_farSum_0 12 rfl rfl)
theorem dX0_farSum_13 : decode cX0_farSum 13 = .ok (.if_icmp .ge 65, 3) := dk_162 0 65 (dk_at dksX0_farSum_0 13 rfl rfl)
theorem dX0_farSum_16 : decode cX0_farSum 16 = .ok (.aload_n 0, 1) := dk_42 (dk_at dksX0_farSum_0 16 rfl rfl)
theorem dX0_farSum_17 : decode cX0_farSum 17 = .ok (.iconst 0, 1) := dk_3 (dk_at dksX0_farSum_0 17 rfl rfl)
theorem dX0_farSum_18 : decode cX0_farSum 18 = .ok (.iload 5, 2) := dk_21 5 (dk_at dksX0_farSum_0 18 rfl rfl)
theorem dX0_farSum_20 : decode cX0_farSum 20 = .ok (.invokevirtual 152, 3) := dk_182 0 152 (dk_at dksX0_farSum_0 20 rfl rfl)
theorem dX0_farSum_23 : decode cX0_farSum 23 = .ok (.istore 6, 2) := dk_54 6 (dk_at dksX0_farSum_1 0 rfl rfl)
theorem dX0_farSum_25 : decode cX0_farSum 25 = .ok (.iload 6, 2) := dk_21 6 (dk_at dksX0_farSum_1 2 rfl rfl)
theorem dX0_farSum_27 : decode cX0_farSum 27 = .ok (.bipush (-9), 2) := dk_16 247 (dk_at dksX0_farSum_1 4 rfl rfl)
theorem dX0_farSum_29 : decode cX0_farSum 29 = .ok (.if_icmp .ne 12, 3) := dk_160 0 12 (dk_at dksX0_farSum_1 6 rfl rfl)
theorem dX0_farSum_32 : decode cX0_farSum 32 = .ok (.aload_n 0, 1) := dk_42 (dk_at dksX0_farSum_1 9 rfl rfl)
theorem dX0_farSum_33 : decode cX0_farSum 33 = .ok (.getfield 41, 3) := dk_180 0 41 (dk_at dksX0_farSum_1 10 rfl rfl)
theorem dX0_farSum_36 : decode cX0_farSum 36 = .ok (.iconst 1, 1) := dk_4 (dk_at dksX0_farSum_1 13 rfl rfl)
theorem dX0_farSum_37 : decode cX0_farSum 37 = .ok (.iaload, 1) := dk_46 (dk_at dksX0_farSum_1 14 rfl rfl)
theorem dX0_farSum_38 : decode cX0_farSum 38 = .ok (.goto 13, 3) := dk_167 0 13 (dk_at dksX0_farSum_1 15 rfl rfl)
theorem dX0_farSum_41 : decode cX0_farSum 41 = .ok (.aload_n 0, 1) := dk_42 (dk_at dksX0_farSum_1 18 rfl rfl)
theorem dX0_farSum_42 : decode cX0_farSum 42 = .ok (.getfield 41, 3) := dk_180 0 41 (dk_at dksX0_farSum_1 19 rfl rfl)
theorem dX0_farSum_45 : decode cX0_farSum 45 = .ok (.bipush 8, 2) := dk_16 8 (dk_at dksX0_farSum_1 22 rfl rfl)
theorem dX0_farSum_47 : decode cX0_farSum 47 = .ok (.iload 6, 2) := dk_21 6 (dk_at dksX0_farSum_2 0 rfl rfl)
theorem dX0_farSum_49 : decode cX0_farSum 49 = .ok (.iadd, 1) := dk_96 (dk_at dksX0_farSum_2 2 rfl rfl)
theorem dX0_farSum_50 : decode cX0_farSum 50 = .ok (.iaload, 1) := dk_46 (dk_at dksX0_farSum_2 3 rfl rfl)
theorem dX0_farSum_51 : decode cX0_farSum 51 = .ok (.istore 7, 2) := dk_54 7 (dk_at dksX0_farSum_2 4 rfl rfl)
theorem dX0_farSum_53 : decode cX0_farSum 53 = .ok (.lload_n 3, 1) := dk_33 (dk_at dksX0_farSum_2 6 rfl rfl)
theorem dX0_farSum_54 : decode cX0_farSum 54 = .ok (.aload_n 0, 1) := dk_42 (dk_at dksX0_farSum_2 7 rfl rfl)
theorem dX0_farSum_55 : decode cX0_farSum 55 = .ok (.iload 5, 2) := dk_21 5 (dk_at dksX0_farSum_2 8 rfl rfl)
theorem dX0_farSum_57 : decode cX0_farSum 57 = .ok (.iload_n 2, 1) := dk_28 (dk_at dksX0_farSum_2 10 rfl rfl)
theorem dX0_farSum_58 : decode cX0_farSum 58 = .ok (.invokevirtual 306, 3) := dk_182 1 50 (dk_at dksX0_farSum_2 11 rfl rfl)
theorem dX0_farSum_61 : decode cX0_farSum 61 = .ok (.iload 7, 2) := dk_21 7 (dk_at dksX0_farSum_2 14 rfl rfl)
theorem dX0_farSum_63 : decode cX0_farSum 63 = .ok (.iload_n 1, 1) := dk_27 (dk_at dksX0_farSum_2 16 rfl rfl)
theorem dX0_farSum_64 : decode cX0_farSum 64 = .ok (.isub, 1) := dk_100 (dk_at dksX0_farSum_2 17 rfl rfl)
theorem dX0_farSum_65 : decode cX0_farSum 65 = .ok (.invokestatic 129, 3) := dk_184 0 129 (dk_at dksX0_farSum_2 18 rfl rfl)
theorem dX0_farSum_68 : decode cX0_farSum 68 = .ok (.i2l, 1) := dk_133 (dk_at dksX0_farSum_2 21 rfl rfl)
theorem dX0_farSum_69 : decode cX0_farSum 69 = .ok (.lmul, 1) := dk_105 (dk_at dksX0_farSum_2 22 rfl rfl)
theorem dX0_farSum_70 : decode cX0_farSum 70 = .ok (.ladd, 1) := dk_97 (dk_at dksX0_farSum_2 23 rfl rfl)
theorem dX0_farSum_71 : decode cX0_farSum 71 = .ok (.lstore_n 3, 1) := dk_66 (dk_at dksX0_farSum_3 0 rfl rfl)
theorem dX0_farSum_72 : decode cX0_farSum 72 = .ok (.iinc 5 1, 3) := dk_132 5 1 (dk_at dksX0_farSum_3 1 rfl rfl)
theorem dX0_farSum_75 : decode cX0_farSum 75 = .ok (.goto (-70), 3) := dk_167 255 186 (dk_at dksX0_farSum_3 4 rfl rfl)
theorem dX0_farSum_78 : decode cX0_farSum 78 = .ok (.lload_n 3, 1) := dk_33 (dk_at dksX0_farSum_3 7 rfl rfl)
theorem dX0_farSum_79 : decode cX0_farSum 79 = .ok (.lreturn, 1) := dk_173 (dk_at dksX0_farSum_3 8 rfl rfl)
abbrev cX0_fair : ByteArray := prog_1_method_81_code
def yX0_fair : MethodName := ⟨RX0, "fair", "(I)I"⟩
def dkwX0_fair_3 : List UInt8 := [132, 6, 1, 167, 255, 213, 42, 22, 4, 42, 182, 1, 54, 182, 1, 40, 87, 29, 172]
abbrev dktX0_fair_3 : List UInt8 := dkwX0_fair_3 ++ []
def dkwX0_fair_2 : List UInt8 := [22, 7, 22, 4, 148, 156, 0, 8, 21, 6, 167, 0, 4, 29, 62, 22, 4, 22, 7, 184, 1, 61, 55, 4]
abbrev dktX0_fair_2 : List UInt8 := dkwX0_fair_2 ++ dktX0_fair_3
def dkwX0_fair_1 : List UInt8 := [182, 1, 58, 55, 4, 4, 54, 6, 21, 6, 16, 10, 162, 0, 42, 42, 21, 6, 27, 182, 1, 58, 55, 7]
abbrev dktX0_fair_1 : List UInt8 := dkwX0_fair_1 ++ dktX0_fair_2
def dkwX0_fair_0 : List UInt8 := [42, 27, 3, 16, 12, 184, 0, 65, 182, 0, 238, 61, 28, 156, 0, 5, 28, 172, 3, 62, 42, 3, 27]
abbrev dktX0_fair_0 : List UInt8 := dkwX0_fair_0 ++ dktX0_fair_1
theorem dksX0_fair_0 : cX0_fair.data.toList.drop 0 = dktX0_fair_0 := by decide +kernel
theorem dksX0_fair_1 : cX0_fair.data.toList.drop 23 = dktX0_fair_1 := dk_seg dksX0_fair_0 23 rfl rfl
theorem dksX0_fair_2 : cX0_fair.data.toList.drop 47 = dktX0_fair_2 := dk_seg dksX0_fair_1 24 rfl rfl
theorem dksX0_fair_3 : cX0_fair.data.toList.drop 71 = dktX0_fair_3 := dk_seg dksX0_fair_2 24 rfl rfl
theorem dX0_fair_0 : decode cX0_fair 0 = .ok (.aload_n 0, 1) := dk_42 (dk_at dksX0_fair_0 0 rfl rfl)
theorem dX0_fair_1 : decode cX0_fair 1 = .ok (.iload_n 1, 1) := dk_27 (dk_at dksX0_fair_0 1 rfl rfl)
theorem dX0_fair_2 : decode cX0_fair 2 = .ok (.iconst 0, 1) := dk_3 (dk_at dksX0_fair_0 2 rfl rfl)
theorem dX0_fair_3 : decode cX0_fair 3 = .ok (.bipush 12, 2) := dk_16 12 (dk_at dksX0_fair_0 3 rfl rfl)
theorem dX0_fair_5 : decode cX0_fair 5 = .ok (.invokestatic 65, 3) := dk_184 0 65 (dk_at dksX0_fair_0 5 rfl rfl)
theorem dX0_fair_8 : decode cX0_fair 8 = .ok (.invokevirtual 238, 3) := dk_182 0 238 (dk_at dksX0_fair_0 8 rfl rfl)
theorem dX0_fair_11 : decode cX0_fair 11 = .ok (.istore_n 2, 1) := dk_61 (dk_at dksX0_fair_0 11 rfl rfl)
theorem dX0_fair_12 : decode cX0_fair 12 = .ok (.iload_n 2, 1) := dk_28 (dk_at dksX0_fair_0 12 rfl rfl)
theorem dX0_fair_13 : decode cX0_fair 13 = .ok (.ifCond .ge 5, 3) := dk_156 0 5 (dk_at dksX0_fair_0 13 rfl rfl)
theorem dX0_fair_16 : decode cX0_fair 16 = .ok (.iload_n 2, 1) := dk_28 (dk_at dksX0_fair_0 16 rfl rfl)
theorem dX0_fair_17 : decode cX0_fair 17 = .ok (.ireturn, 1) := dk_172 (dk_at dksX0_fair_0 17 rfl rfl)
theorem dX0_fair_18 : decode cX0_fair 18 = .ok (.iconst 0, 1) := dk_3 (dk_at dksX0_fair_0 18 rfl rfl)
theorem dX0_fair_19 : decode cX0_fair 19 = .ok (.istore_n 3, 1) := dk_62 (dk_at dksX0_fair_0 19 rfl rfl)
theorem dX0_fair_20 : decode cX0_fair 20 = .ok (.aload_n 0, 1) := dk_42 (dk_at dksX0_fair_0 20 rfl rfl)
theorem dX0_fair_21 : decode cX0_fair 21 = .ok (.iconst 0, 1) := dk_3 (dk_at dksX0_fair_0 21 rfl rfl)
theorem dX0_fair_22 : decode cX0_fair 22 = .ok (.iload_n 1, 1) := dk_27 (dk_at dksX0_fair_0 22 rfl rfl)
theorem dX0_fair_23 : decode cX0_fair 23 = .ok (.invokevirtual 314, 3) := dk_182 1 58 (dk_at dksX0_fair_1 0 rfl rfl)
theorem dX0_fair_26 : decode cX0_fair 26 = .ok (.lstore 4, 2) := dk_55 4 (dk_at dksX0_fair_1 3 rfl rfl)
theorem dX0_fair_28 : decode cX0_fair 28 = .ok (.iconst 1, 1) := dk_4 (dk_at dksX0_fair_1 5 rfl rfl)
theorem dX0_fair_29 : decode cX0_fair 29 = .ok (.istore 6, 2) := dk_54 6 (dk_at dksX0_fair_1 6 rfl rfl)
theorem dX0_fair_31 : decode cX0_fair 31 = .ok (.iload 6, 2) := dk_21 6 (dk_at dksX0_fair_1 8 rfl rfl)
theorem dX0_fair_33 : decode cX0_fair 33 = .ok (.bipush 10, 2) := dk_16 10 (dk_at dksX0_fair_1 10 rfl rfl)
theorem dX0_fair_35 : decode cX0_fair 35 = .ok (.if_icmp .ge 42, 3) := dk_162 0 42 (dk_at dksX0_fair_1 12 rfl rfl)
theorem dX0_fair_38 : decode cX0_fair 38 = .ok (.aload_n 0, 1) := dk_42 (dk_at dksX0_fair_1 15 rfl rfl)
theorem dX0_fair_39 : decode cX0_fair 39 = .ok (.iload 6, 2) := dk_21 6 (dk_at dksX0_fair_1 16 rfl rfl)
theorem dX0_fair_41 : decode cX0_fair 41 = .ok (.iload_n 1, 1) := dk_27 (dk_at dksX0_fair_1 18 rfl rfl)
theorem dX0_fair_42 : decode cX0_fair 42 = .ok (.invokevirtual 314, 3) := dk_182 1 58 (dk_at dksX0_fair_1 19 rfl rfl)
theorem dX0_fair_45 : decode cX0_fair 45 = .ok (.lstore 7, 2) := dk_55 7 (dk_at dksX0_fair_1 22 rfl rfl)
theorem dX0_fair_47 : decode cX0_fair 47 = .ok (.lload 7, 2) := dk_22 7 (dk_at dksX0_fair_2 0 rfl rfl)
theorem dX0_fair_49 : decode cX0_fair 49 = .ok (.lload 4, 2) := dk_22 4 (dk_at dksX0_fair_2 2 rfl rfl)
theorem dX0_fair_51 : decode cX0_fair 51 = .ok (.lcmp, 1) := dk_148 (dk_at dksX0_fair_2 4 rfl rfl)
theorem dX0_fair_52 : decode cX0_fair 52 = .ok (.ifCond .ge 8, 3) := dk_156 0 8 (dk_at dksX0_fair_2 5 rfl rfl)
theorem dX0_fair_55 : decode cX0_fair 55 = .ok (.iload 6, 2) := dk_21 6 (dk_at dksX0_fair_2 8 rfl rfl)
theorem dX0_fair_57 : decode cX0_fair 57 = .ok (.goto 4, 3) := dk_167 0 4 (dk_at dksX0_fair_2 10 rfl rfl)
theorem dX0_fair_60 : decode cX0_fair 60 = .ok (.iload_n 3, 1) := dk_29 (dk_at dksX0_fair_2 13 rfl rfl)
theorem dX0_fair_61 : decode cX0_fair 61 = .ok (.istore_n 3, 1) := dk_62 (dk_at dksX0_fair_2 14 rfl rfl)
theorem dX0_fair_62 : decode cX0_fair 62 = .ok (.lload 4, 2) := dk_22 4 (dk_at dksX0_fair_2 15 rfl rfl)
theorem dX0_fair_64 : decode cX0_fair 64 = .ok (.lload 7, 2) := dk_22 7 (dk_at dksX0_fair_2 17 rfl rfl)
theorem dX0_fair_66 : decode cX0_fair 66 = .ok (.invokestatic 317, 3) := dk_184 1 61 (dk_at dksX0_fair_2 19 rfl rfl)
theorem dX0_fair_69 : decode cX0_fair 69 = .ok (.lstore 4, 2) := dk_55 4 (dk_at dksX0_fair_2 22 rfl rfl)
theorem dX0_fair_71 : decode cX0_fair 71 = .ok (.iinc 6 1, 3) := dk_132 6 1 (dk_at dksX0_fair_3 0 rfl rfl)
theorem dX0_fair_74 : decode cX0_fair 74 = .ok (.goto (-43), 3) := dk_167 255 213 (dk_at dksX0_fair_3 3 rfl rfl)
theorem dX0_fair_77 : decode cX0_fair 77 = .ok (.aload_n 0, 1) := dk_42 (dk_at dksX0_fair_3 6 rfl rfl)
theorem dX0_fair_78 : decode cX0_fair 78 = .ok (.lload 4, 2) := dk_22 4 (dk_at dksX0_fair_3 7 rfl rfl)
theorem dX0_fair_80 : decode cX0_fair 80 = .ok (.aload_n 0, 1) := dk_42 (dk_at dksX0_fair_3 9 rfl rfl)
theorem dX0_fair_81 : decode cX0_fair 81 = .ok (.invokevirtual 310, 3) := dk_182 1 54 (dk_at dksX0_fair_3 10 rfl rfl)
theorem dX0_fair_84 : decode cX0_fair 84 = .ok (.invokevirtual 296, 3) := dk_182 1 40 (dk_at dksX0_fair_3 13 rfl rfl)
theorem dX0_fair_87 : decode cX0_fair 87 = .ok (.pop, 1) := dk_87 (dk_at dksX0_fair_3 16 rfl rfl)
theorem dX0_fair_88 : decode cX0_fair 88 = .ok (.iload_n 3, 1) := dk_29 (dk_at dksX0_fair_3 17 rfl rfl)
theorem dX0_fair_89 : decode cX0_fair 89 = .ok (.ireturn, 1) := dk_172 (dk_at dksX0_fair_3 18 rfl rfl)
abbrev cX0_lots : ByteArray := prog_1_method_83_code
def yX0_lots : MethodName := ⟨RX0, "lots", "(II)I"⟩
def dkwX0_lots_5 : List UInt8 := [42, 180, 0, 41, 4, 46, 172]
abbrev dktX0_lots_5 : List UInt8 := dkwX0_lots_5 ++ []
def dkwX0_lots_4 : List UInt8 := [22, 4, 42, 180, 0, 116, 133, 113, 136, 22, 4, 20, 1, 75, 109, 182, 1, 77, 132, 6, 1, 167, 255, 201]
abbrev dktX0_lots_4 : List UInt8 := dkwX0_lots_4 ++ dktX0_lots_5
def dkwX0_lots_3 : List UInt8 := [105, 20, 1, 71, 113, 55, 4, 42, 182, 0, 229, 42, 22, 4, 20, 1, 73, 109, 20, 1, 73, 113, 136]
abbrev dktX0_lots_3 : List UInt8 := dkwX0_lots_3 ++ dktX0_lots_4
def dkwX0_lots_2 : List UInt8 := [164, 0, 6, 16, 254, 172, 28, 133, 55, 4, 3, 54, 6, 21, 6, 27, 162, 0, 55, 20, 1, 69, 22, 4]
abbrev dktX0_lots_2 : List UInt8 := dkwX0_lots_2 ++ dktX0_lots_3
def dkwX0_lots_1 : List UInt8 := [167, 0, 4, 3, 182, 0, 238, 62, 29, 156, 0, 5, 29, 172, 42, 180, 0, 202, 27, 96, 16, 40]
abbrev dktX0_lots_1 : List UInt8 := dkwX0_lots_1 ++ dktX0_lots_2
def dkwX0_lots_0 : List UInt8 := [42, 27, 4, 16, 20, 184, 0, 65, 153, 0, 18, 28, 4, 19, 1, 68, 184, 0, 65, 153, 0, 7, 4]
abbrev dktX0_lots_0 : List UInt8 := dkwX0_lots_0 ++ dktX0_lots_1
theorem dksX0_lots_0 : cX0_lots.data.toList.drop 0 = dktX0_lots_0 := by decide +kernel
theorem dksX0_lots_1 : cX0_lots.data.toList.drop 23 = dktX0_lots_1 := dk_seg dksX0_lots_0 23 rfl rfl
theorem dksX0_lots_2 : cX0_lots.data.toList.drop 45 = dktX0_lots_2 := dk_seg dksX0_lots_1 22 rfl rfl
theorem dksX0_lots_3 : cX0_lots.data.toList.drop 69 = dktX0_lots_3 := dk_seg dksX0_lots_2 24 rfl rfl
theorem dksX0_lots_4 : cX0_lots.data.toList.drop 92 = dktX0_lots_4 := dk_seg dksX0_lots_3 23 rfl rfl
theorem dksX0_lots_5 : cX0_lots.data.toList.drop 116 = dktX0_lots_5 := dk_seg dksX0_lots_4 24 rfl rfl
theorem dX0_lots_0 : decode cX0_lots 0 = .ok (.aload_n 0, 1) := dk_42 (dk_at dksX0_lots_0 0 rfl rfl)
theorem dX0_lots_1 : decode cX0_lots 1 = .ok (.iload_n 1, 1) := dk_27 (dk_at dksX0_lots_0 1 rfl rfl)
theorem dX0_lots_2 : decode cX0_lots 2 = .ok (.iconst 1, 1) := dk_4 (dk_at dksX0_lots_0 2 rfl rfl)
theorem dX0_lots_3 : decode cX0_lots 3 = .ok (.bipush 20, 2) := dk_16 20 (dk_at dksX0_lots_0 3 rfl rfl)
theorem dX0_lots_5 : decode cX0_lots 5 = .ok (.invokestatic 65, 3) := dk_184 0 65 (dk_at dksX0_lots_0 5 rfl rfl)
theorem dX0_lots_8 : decode cX0_lots 8 = .ok (.ifCond .eq 18, 3) := dk_153 0 18 (dk_at dksX0_lots_0 8 rfl rfl)
theorem dX0_lots_11 : decode cX0_lots 11 = .ok (.iload_n 2, 1) := dk_28 (dk_at dksX0_lots_0 11 rfl rfl)
theorem dX0_lots_12 : decode cX0_lots 12 = .ok (.iconst 1, 1) := dk_4 (dk_at dksX0_lots_0 12 rfl rfl)
theorem dX0_lots_13 : decode cX0_lots 13 = .ok (.ldc_w 324, 3) := dk_19 1 68 (dk_at dksX0_lots_0 13 rfl rfl)
theorem dX0_lots_16 : decode cX0_lots 16 = .ok (.invokestatic 65, 3) := dk_184 0 65 (dk_at dksX0_lots_0 16 rfl rfl)
theorem dX0_lots_19 : decode cX0_lots 19 = .ok (.ifCond .eq 7, 3) := dk_153 0 7 (dk_at dksX0_lots_0 19 rfl rfl)
theorem dX0_lots_22 : decode cX0_lots 22 = .ok (.iconst 1, 1) := dk_4 (dk_at dksX0_lots_0 22 rfl rfl)
theorem dX0_lots_23 : decode cX0_lots 23 = .ok (.goto 4, 3) := dk_167 0 4 (dk_at dksX0_lots_1 0 rfl rfl)
theorem dX0_lots_26 : decode cX0_lots 26 = .ok (.iconst 0, 1) := dk_3 (dk_at dksX0_lots_1 3 rfl rfl)
theorem dX0_lots_27 : decode cX0_lots 27 = .ok (.invokevirtual 238, 3) := dk_182 0 238 (dk_at dksX0_lots_1 4 rfl rfl)
theorem dX0_lots_30 : decode cX0_lots 30 = .ok (.istore_n 3, 1) := dk_62 (dk_at dksX0_lots_1 7 rfl rfl)
theorem dX0_lots_31 : decode cX0_lots 31 = .ok (.iload_n 3, 1) := dk_29 (dk_at dksX0_lots_1 8 rfl rfl)
theorem dX0_lots_32 : decode cX0_lots 32 = .ok (.ifCond .ge 5, 3) := dk_156 0 5 (dk_at dksX0_lots_1 9 rfl rfl)
theorem dX0_lots_35 : decode cX0_lots 35 = .ok (.iload_n 3, 1) := dk_29 (dk_at dksX0_lots_1 12 rfl rfl)
theorem dX0_lots_36 : decode cX0_lots 36 = .ok (.ireturn, 1) := dk_172 (dk_at dksX0_lots_1 13 rfl rfl)
theorem dX0_lots_37 : decode cX0_lots 37 = .ok (.aload_n 0, 1) := dk_42 (dk_at dksX0_lots_1 14 rfl rfl)
theorem dX0_lots_38 : decode cX0_lots 38 = .ok (.getfield 202, 3) := dk_180 0 202 (dk_at dksX0_lots_1 15 rfl rfl)
theorem dX0_lots_41 : decode cX0_lots 41 = .ok (.iload_n 1, 1) := dk_27 (dk_at dksX0_lots_1 18 rfl rfl)
theorem dX0_lots_42 : decode cX0_lots 42 = .ok (.iadd, 1) := dk_96 (dk_at dksX0_lots_1 19 rfl rfl)
theorem dX0_lots_43 : decode cX0_lots 43 = .ok (.bipush 40, 2) := dk_16 40 (dk_at dksX0_lots_1 20 rfl rfl)
theorem dX0_lots_45 : decode cX0_lots 45 = .ok (.if_icmp .le 6, 3) := dk_164 0 6 (dk_at dksX0_lots_2 0 rfl rfl)
theorem dX0_lots_48 : decode cX0_lots 48 = .ok (.bipush (-2), 2) := dk_16 254 (dk_at dksX0_lots_2 3 rfl rfl)
theorem dX0_lots_50 : decode cX0_lots 50 = .ok (.ireturn, 1) := dk_172 (dk_at dksX0_lots_2 5 rfl rfl)
theorem dX0_lots_51 : decode cX0_lots 51 = .ok (.iload_n 2, 1) := dk_28 (dk_at dksX0_lots_2 6 rfl rfl)
theorem dX0_lots_52 : decode cX0_lots 52 = .ok (.i2l, 1) := dk_133 (dk_at dksX0_lots_2 7 rfl rfl)
theorem dX0_lots_53 : decode cX0_lots 53 = .ok (.lstore 4, 2) := dk_55 4 (dk_at dksX0_lots_2 8 rfl rfl)
theorem dX0_lots_55 : decode cX0_lots 55 = .ok (.iconst 0, 1) := dk_3 (dk_at dksX0_lots_2 10 rfl rfl)
theorem dX0_lots_56 : decode cX0_lots 56 = .ok (.istore 6, 2) := dk_54 6 (dk_at dksX0_lots_2 11 rfl rfl)
theorem dX0_lots_58 : decode cX0_lots 58 = .ok (.iload 6, 2) := dk_21 6 (dk_at dksX0_lots_2 13 rfl rfl)
theorem dX0_lots_60 : decode cX0_lots 60 = .ok (.iload_n 1, 1) := dk_27 (dk_at dksX0_lots_2 15 rfl rfl)
theorem dX0_lots_61 : decode cX0_lots 61 = .ok (.if_icmp .ge 55, 3) := dk_162 0 55 (dk_at dksX0_lots_2 16 rfl rfl)
theorem dX0_lots_64 : decode cX0_lots 64 = .ok (.ldc2_w 325, 3) := dk_20 1 69 (dk_at dksX0_lots_2 19 rfl rfl)
theorem dX0_lots_67 : decode cX0_lots 67 = .ok (.lload 4, 2) := dk_22 4 (dk_at dksX0_lots_2 22 rfl rfl)
theorem dX0_lots_69 : decode cX0_lots 69 = .ok (.lmul, 1) := dk_105 (dk_at dksX0_lots_3 0 rfl rfl)
theorem dX0_lots_70 : decode cX0_lots 70 = .ok (.ldc2_w 327, 3) := dk_20 1 71 (dk_at dksX0_lots_3 1 rfl rfl)
theorem dX0_lots_73 : decode cX0_lots 73 = .ok (.lrem, 1) := dk_113 (dk_at dksX0_lots_3 4 rfl rfl)
theorem dX0_lots_74 : decode cX0_lots 74 = .ok (.lstore 4, 2) := dk_55 4 (dk_at dksX0_lots_3 5 rfl rfl)
theorem dX0_lots_76 : decode cX0_lots 76 = .ok (.aload_n 0, 1) := dk_42 (dk_at dksX0_lots_3 7 rfl rfl)
theorem dX0_lots_77 : decode cX0_lots 77 = .ok (.invokevirtual 229, 3) := dk_182 0 229 (dk_at dksX0_lots_3 8 rfl rfl)
theorem dX0_lots_80 : decode cX0_lots 80 = .ok (.aload_n 0, 1) := dk_42 (dk_at dksX0_lots_3 11 rfl rfl)
theorem dX0_lots_81 : decode cX0_lots 81 = .ok (.lload 4, 2) := dk_22 4 (dk_at dksX0_lots_3 12 rfl rfl)
theorem dX0_lots_83 : decode cX0_lots 83 = .ok (.ldc2_w 329, 3) := dk_20 1 73 (dk_at dksX0_lots_3 14 rfl rfl)
theorem dX0_lots_86 : decode cX0_lots 86 = .ok (.ldiv, 1) := dk_109 (dk_at dksX0_lots_3 17 rfl rfl)
theorem dX0_lots_87 : decode cX0_lots 87 = .ok (.ldc2_w 329, 3) := dk_20 1 73 (dk_at dksX0_lots_3 18 rfl rfl)
theorem dX0_lots_90 : decode cX0_lots 90 = .ok (.lrem, 1) := dk_113 (dk_at dksX0_lots_3 21 rfl rfl)
theorem dX0_lots_91 : decode cX0_lots 91 = .ok (.l2i, 1) := dk_136 (dk_at dksX0_lots_3 22 rfl rfl)
theorem dX0_lots_92 : decode cX0_lots 92 = .ok (.lload 4, 2) := dk_22 4 (dk_at dksX0_lots_4 0 rfl rfl)
theorem dX0_lots_94 : decode cX0_lots 94 = .ok (.aload_n 0, 1) := dk_42 (dk_at dksX0_lots_4 2 rfl rfl)
theorem dX0_lots_95 : decode cX0_lots 95 = .ok (.getfield 116, 3) := dk_180 0 116 (dk_at dksX0_lots_4 3 rfl rfl)
theorem dX0_lots_98 : decode cX0_lots 98 = .ok (.i2l, 1) := dk_133 (dk_at dksX0_lots_4 6 rfl rfl)
theorem dX0_lots_99 : decode cX0_lots 99 = .ok (.lrem, 1) := dk_113 (dk_at dksX0_lots_4 7 rfl rfl)
theorem dX0_lots_100 : decode cX0_lots 100 = .ok (.l2i, 1) := dk_136 (dk_at dksX0_lots_4 8 rfl rfl)
theorem dX0_lots_101 : decode cX0_lots 101 = .ok (.lload 4, 2) := dk_22 4 (dk_at dksX0_lots_4 9 rfl rfl)
theorem dX0_lots_103 : decode cX0_lots 103 = .ok (.ldc2_w 331, 3) := dk_20 1 75 (dk_at dksX0_lots_4 11 rfl rfl)
theorem dX0_lots_106 : decode cX0_lots 106 = .ok (.ldiv, 1) := dk_109 (dk_at dksX0_lots_4 14 rfl rfl)
theorem dX0_lots_107 : decode cX0_lots 107 = .ok (.invokevirtual 333, 3) := dk_182 1 77 (dk_at dksX0_lots_4 15 rfl rfl)
theorem dX0_lots_110 : decode cX0_lots 110 = .ok (.iinc 6 1, 3) := dk_132 6 1 (dk_at dksX0_lots_4 18 rfl rfl)
theorem dX0_lots_113 : decode cX0_lots 113 = .ok (.goto (-55), 3) := dk_167 255 201 (dk_at dksX0_lots_4 21 rfl rfl)
theorem dX0_lots_116 : decode cX0_lots 116 = .ok (.aload_n 0, 1) := dk_42 (dk_at dksX0_lots_5 0 rfl rfl)
theorem dX0_lots_117 : decode cX0_lots 117 = .ok (.getfield 41, 3) := dk_180 0 41 (dk_at dksX0_lots_5 1 rfl rfl)
theorem dX0_lots_120 : decode cX0_lots 120 = .ok (.iconst 1, 1) := dk_4 (dk_at dksX0_lots_5 4 rfl rfl)
theorem dX0_lots_121 : decode cX0_lots 121 = .ok (.iaload, 1) := dk_46 (dk_at dksX0_lots_5 5 rfl rfl)
theorem dX0_lots_122 : decode cX0_lots 122 = .ok (.ireturn, 1) := dk_172 (dk_at dksX0_lots_5 6 rfl rfl)
abbrev cX0_does : ByteArray := prog_1_method_82_code
def yX0_does : MethodName := ⟨RX0, "does", "(IIJ)V"⟩
def dkwX0_does_4 : List UInt8 := [167, 0, 9, 42, 3, 182, 0, 232, 87, 177]
abbrev dktX0_does_4 : List UInt8 := dkwX0_does_4 ++ []
def dkwX0_does_3 : List UInt8 := [167, 0, 32, 27, 6, 160, 0, 21, 42, 180, 0, 41, 16, 8, 28, 96, 33, 20, 1, 66, 113, 136, 79]
abbrev dktX0_does_3 : List UInt8 := dkwX0_does_3 ++ dktX0_does_4
def dkwX0_does_2 : List UInt8 := [180, 0, 41, 5, 28, 96, 3, 42, 180, 0, 41, 5, 28, 96, 46, 21, 5, 100, 184, 0, 159, 79]
abbrev dktX0_does_2 : List UInt8 := dkwX0_does_2 ++ dktX0_does_3
def dkwX0_does_1 : List UInt8 := [42, 180, 0, 41, 5, 28, 96, 46, 21, 5, 96, 184, 1, 18, 79, 167, 0, 63, 27, 5, 160, 0, 29, 42]
abbrev dktX0_does_1 : List UInt8 := dkwX0_does_1 ++ dktX0_does_2
def dkwX0_does_0 : List UInt8 := [4, 33, 20, 1, 64, 113, 136, 96, 54, 5, 27, 5, 162, 0, 30, 42, 180, 0, 41, 5, 28, 96, 16, 20]
abbrev dktX0_does_0 : List UInt8 := dkwX0_does_0 ++ dktX0_does_1
theorem dksX0_does_0 : cX0_does.data.toList.drop 0 = dktX0_does_0 := by decide +kernel
theorem dksX0_does_1 : cX0_does.data.toList.drop 24 = dktX0_does_1 := dk_seg dksX0_does_0 24 rfl rfl
theorem dksX0_does_2 : cX0_does.data.toList.drop 48 = dktX0_does_2 := dk_seg dksX0_does_1 24 rfl rfl
theorem dksX0_does_3 : cX0_does.data.toList.drop 70 = dktX0_does_3 := dk_seg dksX0_does_2 22 rfl rfl
theorem dksX0_does_4 : cX0_does.data.toList.drop 93 = dktX0_does_4 := dk_seg dksX0_does_3 23 rfl rfl
theorem dX0_does_0 : decode cX0_does 0 = .ok (.iconst 1, 1) := dk_4 (dk_at dksX0_does_0 0 rfl rfl)
theorem dX0_does_1 : decode cX0_does 1 = .ok (.lload_n 3, 1) := dk_33 (dk_at dksX0_does_0 1 rfl rfl)
theorem dX0_does_2 : decode cX0_does 2 = .ok (.ldc2_w 320, 3) := dk_20 1 64 (dk_at dksX0_does_0 2 rfl rfl)
theorem dX0_does_5 : decode cX0_does 5 = .ok (.lrem, 1) := dk_113 (dk_at dksX0_does_0 5 rfl rfl)
theorem dX0_does_6 : decode cX0_does 6 = .ok (.l2i, 1) := dk_136 (dk_at dksX0_does_0 6 rfl rfl)
theorem dX0_does_7 : decode cX0_does 7 = .ok (.iadd, 1) := dk_96 (dk_at dksX0_does_0 7 rfl rfl)
theorem dX0_does_8 : decode cX0_does 8 = .ok (.istore 5, 2) := dk_54 5 (dk_at dksX0_does_0 8 rfl rfl)
theorem dX0_does_10 : decode cX0_does 10 = .ok (.iload_n 1, 1) := dk_27 (dk_at dksX0_does_0 10 rfl rfl)
theorem dX0_does_11 : decode cX0_does 11 = .ok (.iconst 2, 1) := dk_5 (dk_at dksX0_does_0 11 rfl rfl)
theorem dX0_does_12 : decode cX0_does 12 = .ok (.if_icmp .ge 30, 3) := dk_162 0 30 (dk_at dksX0_does_0 12 rfl rfl)
theorem dX0_does_15 : decode cX0_does 15 = .ok (.aload_n 0, 1) := dk_42 (dk_at dksX0_does_0 15 rfl rfl)
theorem dX0_does_16 : decode cX0_does 16 = .ok (.getfield 41, 3) := dk_180 0 41 (dk_at dksX0_does_0 16 rfl rfl)
theorem dX0_does_19 : decode cX0_does 19 = .ok (.iconst 2, 1) := dk_5 (dk_at dksX0_does_0 19 rfl rfl)
theorem dX0_does_20 : decode cX0_does 20 = .ok (.iload_n 2, 1) := dk_28 (dk_at dksX0_does_0 20 rfl rfl)
theorem dX0_does_21 : decode cX0_does 21 = .ok (.iadd, 1) := dk_96 (dk_at dksX0_does_0 21 rfl rfl)
theorem dX0_does_22 : decode cX0_does 22 = .ok (.bipush 20, 2) := dk_16 20 (dk_at dksX0_does_0 22 rfl rfl)
theorem dX0_does_24 : decode cX0_does 24 = .ok (.aload_n 0, 1) := dk_42 (dk_at dksX0_does_1 0 rfl rfl)
theorem dX0_does_25 : decode cX0_does 25 = .ok (.getfield 41, 3) := dk_180 0 41 (dk_at dksX0_does_1 1 rfl rfl)
theorem dX0_does_28 : decode cX0_does 28 = .ok (.iconst 2, 1) := dk_5 (dk_at dksX0_does_1 4 rfl rfl)
theorem dX0_does_29 : decode cX0_does 29 = .ok (.iload_n 2, 1) := dk_28 (dk_at dksX0_does_1 5 rfl rfl)
theorem dX0_does_30 : decode cX0_does 30 = .ok (.iadd, 1) := dk_96 (dk_at dksX0_does_1 6 rfl rfl)
theorem dX0_does_31 : decode cX0_does 31 = .ok (.iaload, 1) := dk_46 (dk_at dksX0_does_1 7 rfl rfl)
theorem dX0_does_32 : decode cX0_does 32 = .ok (.iload 5, 2) := dk_21 5 (dk_at dksX0_does_1 8 rfl rfl)
theorem dX0_does_34 : decode cX0_does 34 = .ok (.iadd, 1) := dk_96 (dk_at dksX0_does_1 10 rfl rfl)
theorem dX0_does_35 : decode cX0_does 35 = .ok (.invokestatic 274, 3) := dk_184 1 18 (dk_at dksX0_does_1 11 rfl rfl)
theorem dX0_does_38 : decode cX0_does 38 = .ok (.iastore, 1) := dk_79 (dk_at dksX0_does_1 14 rfl rfl)
theorem dX0_does_39 : decode cX0_does 39 = .ok (.goto 63, 3) := dk_167 0 63 (dk_at dksX0_does_1 15 rfl rfl)
theorem dX0_does_42 : decode cX0_does 42 = .ok (.iload_n 1, 1) := dk_27 (dk_at dksX0_does_1 18 rfl rfl)
theorem dX0_does_43 : decode cX0_does 43 = .ok (.iconst 2, 1) := dk_5 (dk_at dksX0_does_1 19 rfl rfl)
theorem dX0_does_44 : decode cX0_does 44 = .ok (.if_icmp .ne 29, 3) := dk_160 0 29 (dk_at dksX0_does_1 20 rfl rfl)
theorem dX0_does_47 : decode cX0_does 47 = .ok (.aload_n 0, 1) := dk_42 (dk_at dksX0_does_1 23 rfl rfl)
theorem dX0_does_48 : decode cX0_does 48 = .ok (.getfield 41, 3) := dk_180 0 41 (dk_at dksX0_does_2 0 rfl rfl)
theorem dX0_does_51 : decode cX0_does 51 = .ok (.iconst 2, 1) := dk_5 (dk_at dksX0_does_2 3 rfl rfl)
theorem dX0_does_52 : decode cX0_does 52 = .ok (.iload_n 2, 1) := dk_28 (dk_at dksX0_does_2 4 rfl rfl)
theorem dX0_does_53 : decode cX0_does 53 = .ok (.iadd, 1) := dk_96 (dk_at dksX0_does_2 5 rfl rfl)
theorem dX0_does_54 : decode cX0_does 54 = .ok (.iconst 0, 1) := dk_3 (dk_at dksX0_does_2 6 rfl rfl)
theorem dX0_does_55 : decode cX0_does 55 = .ok (.aload_n 0, 1) := dk_42 (dk_at dksX0_does_2 7 rfl rfl)
theorem dX0_does_56 : decode cX0_does 56 = .ok (.getfield 41, 3) := dk_180 0 41 (dk_at dksX0_does_2 8 rfl rfl)
theorem dX0_does_59 : decode cX0_does 59 = .ok (.iconst 2, 1) := dk_5 (dk_at dksX0_does_2 11 rfl rfl)
theorem dX0_does_60 : decode cX0_does 60 = .ok (.iload_n 2, 1) := dk_28 (dk_at dksX0_does_2 12 rfl rfl)
theorem dX0_does_61 : decode cX0_does 61 = .ok (.iadd, 1) := dk_96 (dk_at dksX0_does_2 13 rfl rfl)
theorem dX0_does_62 : decode cX0_does 62 = .ok (.iaload, 1) := dk_46 (dk_at dksX0_does_2 14 rfl rfl)
theorem dX0_does_63 : decode cX0_does 63 = .ok (.iload 5, 2) := dk_21 5 (dk_at dksX0_does_2 15 rfl rfl)
theorem dX0_does_65 : decode cX0_does 65 = .ok (.isub, 1) := dk_100 (dk_at dksX0_does_2 17 rfl rfl)
theorem dX0_does_66 : decode cX0_does 66 = .ok (.invokestatic 159, 3) := dk_184 0 159 (dk_at dksX0_does_2 18 rfl rfl)
theorem dX0_does_69 : decode cX0_does 69 = .ok (.iastore, 1) := dk_79 (dk_at dksX0_does_2 21 rfl rfl)
theorem dX0_does_70 : decode cX0_does 70 = .ok (.goto 32, 3) := dk_167 0 32 (dk_at dksX0_does_3 0 rfl rfl)
theorem dX0_does_73 : decode cX0_does 73 = .ok (.iload_n 1, 1) := dk_27 (dk_at dksX0_does_3 3 rfl rfl)
theorem dX0_does_74 : decode cX0_does 74 = .ok (.iconst 3, 1) := dk_6 (dk_at dksX0_does_3 4 rfl rfl)
theorem dX0_does_75 : decode cX0_does 75 = .ok (.if_icmp .ne 21, 3) := dk_160 0 21 (dk_at dksX0_does_3 5 rfl rfl)
theorem dX0_does_78 : decode cX0_does 78 = .ok (.aload_n 0, 1) := dk_42 (dk_at dksX0_does_3 8 rfl rfl)
theorem dX0_does_79 : decode cX0_does 79 = .ok (.getfield 41, 3) := dk_180 0 41 (dk_at dksX0_does_3 9 rfl rfl)
theorem dX0_does_82 : decode cX0_does 82 = .ok (.bipush 8, 2) := dk_16 8 (dk_at dksX0_does_3 12 rfl rfl)
theorem dX0_does_84 : decode cX0_does 84 = .ok (.iload_n 2, 1) := dk_28 (dk_at dksX0_does_3 14 rfl rfl)
theorem dX0_does_85 : decode cX0_does 85 = .ok (.iadd, 1) := dk_96 (dk_at dksX0_does_3 15 rfl rfl)
theorem dX0_does_86 : decode cX0_does 86 = .ok (.lload_n 3, 1) := dk_33 (dk_at dksX0_does_3 16 rfl rfl)
theorem dX0_does_87 : decode cX0_does 87 = .ok (.ldc2_w 322, 3) := dk_20 1 66 (dk_at dksX0_does_3 17 rfl rfl)
theorem dX0_does_90 : decode cX0_does 90 = .ok (.lrem, 1) := dk_113 (dk_at dksX0_does_3 20 rfl rfl)
theorem dX0_does_91 : decode cX0_does 91 = .ok (.l2i, 1) := dk_136 (dk_at dksX0_does_3 21 rfl rfl)
theorem dX0_does_92 : decode cX0_does 92 = .ok (.iastore, 1) := dk_79 (dk_at dksX0_does_3 22 rfl rfl)
theorem dX0_does_93 : decode cX0_does 93 = .ok (.goto 9, 3) := dk_167 0 9 (dk_at dksX0_does_4 0 rfl rfl)
theorem dX0_does_96 : decode cX0_does 96 = .ok (.aload_n 0, 1) := dk_42 (dk_at dksX0_does_4 3 rfl rfl)
theorem dX0_does_97 : decode cX0_does 97 = .ok (.iconst 0, 1) := dk_3 (dk_at dksX0_does_4 4 rfl rfl)
theorem dX0_does_98 : decode cX0_does 98 = .ok (.invokevirtual 232, 3) := dk_182 0 232 (dk_at dksX0_does_4 5 rfl rfl)
theorem dX0_does_101 : decode cX0_does 101 = .ok (.pop, 1) := dk_87 (dk_at dksX0_does_4 8 rfl rfl)
theorem dX0_does_102 : decode cX0_does 102 = .ok (.return_, 1) := dk_177 (dk_at dksX0_does_4 9 rfl rfl)
abbrev cX0_count : ByteArray := prog_1_method_85_code
def yX0_count : MethodName := ⟨RX0, "count", "(I)I"⟩
def dkwX0_count_0 : List UInt8 := [27, 3, 16, 11, 184, 0, 65, 153, 0, 11, 42, 27, 182, 1, 81, 167, 0, 4, 2, 172]
abbrev dktX0_count_0 : List UInt8 := dkwX0_count_0 ++ []
theorem dksX0_count_0 : cX0_count.data.toList.drop 0 = dktX0_count_0 := by decide +kernel
theorem dX0_count_0 : decode cX0_count 0 = .ok (.iload_n 1, 1) := dk_27 (dk_at dksX0_count_0 0 rfl rfl)
theorem dX0_count_1 : decode cX0_count 1 = .ok (.iconst 0, 1) := dk_3 (dk_at dksX0_count_0 1 rfl rfl)
theorem dX0_count_2 : decode cX0_count 2 = .ok (.bipush 11, 2) := dk_16 11 (dk_at dksX0_count_0 2 rfl rfl)
theorem dX0_count_4 : decode cX0_count 4 = .ok (.invokestatic 65, 3) := dk_184 0 65 (dk_at dksX0_count_0 4 rfl rfl)
theorem dX0_count_7 : decode cX0_count 7 = .ok (.ifCond .eq 11, 3) := dk_153 0 11 (dk_at dksX0_count_0 7 rfl rfl)
theorem dX0_count_10 : decode cX0_count 10 = .ok (.aload_n 0, 1) := dk_42 (dk_at dksX0_count_0 10 rfl rfl)
theorem dX0_count_11 : decode cX0_count 11 = .ok (.iload_n 1, 1) := dk_27 (dk_at dksX0_count_0 11 rfl rfl)
theorem dX0_count_12 : decode cX0_count 12 = .ok (.invokevirtual 337, 3) := dk_182 1 81 (dk_at dksX0_count_0 12 rfl rfl)
theorem dX0_count_15 : decode cX0_count 15 = .ok (.goto 4, 3) := dk_167 0 4 (dk_at dksX0_count_0 15 rfl rfl)
theorem dX0_count_18 : decode cX0_count 18 = .ok (.iconst (-1), 1) := dk_2 (dk_at dksX0_count_0 18 rfl rfl)
theorem dX0_count_19 : decode cX0_count 19 = .ok (.ireturn, 1) := dk_172 (dk_at dksX0_count_0 19 rfl rfl)
abbrev cX0_counted : ByteArray := prog_1_method_84_code
def yX0_counted : MethodName := ⟨RX0, "counted", "(I)I"⟩
def dkwX0_counted_12 : List UInt8 := [29, 16, 247, 160, 0, 7, 3, 167, 0, 6, 4, 29, 120, 172, 28, 172]
abbrev dktX0_counted_12 : List UInt8 := dkwX0_counted_12 ++ []
def dkwX0_counted_11 : List UInt8 := [42, 180, 0, 116, 172, 42, 180, 0, 41, 3, 46, 172, 42, 180, 0, 202, 172, 42, 180, 0, 41, 4, 46, 172]
abbrev dktX0_counted_11 : List UInt8 := dkwX0_counted_11 ++ dktX0_counted_12
def dkwX0_counted_10 : List UInt8 := [170, 0, 0, 0, 71, 0, 0, 0, 0, 0, 0, 0, 4, 0, 0, 0, 33, 0, 0, 0, 38, 0, 0, 0, 45, 0, 0, 0, 50, 0, 0, 0, 57]
abbrev dktX0_counted_10 : List UInt8 := dkwX0_counted_10 ++ dktX0_counted_11
def dkwX0_counted_9 : List UInt8 := [167, 255, 221, 27, 7, 160, 0, 12, 42, 3, 3, 182, 0, 152, 167, 0, 5, 16, 247, 62, 27]
abbrev dktX0_counted_9 : List UInt8 := dkwX0_counted_9 ++ dktX0_counted_10
def dkwX0_counted_8 : List UInt8 := [160, 0, 16, 42, 180, 0, 50, 29, 50, 198, 0, 7, 4, 167, 0, 4, 3, 96, 61, 132, 3, 1]
abbrev dktX0_counted_8 : List UInt8 := dkwX0_counted_8 ++ dktX0_counted_9
def dkwX0_counted_7 : List UInt8 := [3, 96, 61, 132, 3, 1, 167, 255, 225, 3, 62, 29, 42, 180, 0, 50, 190, 162, 0, 32, 28, 27, 16, 11]
abbrev dktX0_counted_7 : List UInt8 := dkwX0_counted_7 ++ dktX0_counted_8
def dkwX0_counted_6 : List UInt8 := [7, 162, 0, 32, 28, 27, 16, 10, 160, 0, 16, 42, 180, 0, 31, 29, 50, 198, 0, 7, 4, 167, 0, 4]
abbrev dktX0_counted_6 : List UInt8 := dkwX0_counted_6 ++ dktX0_counted_7
def dkwX0_counted_5 : List UInt8 := [180, 0, 25, 29, 50, 198, 0, 7, 4, 167, 0, 4, 3, 96, 61, 132, 3, 1, 167, 255, 224, 3, 62, 29]
abbrev dktX0_counted_5 : List UInt8 := dkwX0_counted_5 ++ dktX0_counted_6
def dkwX0_counted_4 : List UInt8 := [132, 3, 1, 167, 255, 163, 3, 62, 29, 16, 6, 162, 0, 32, 28, 27, 16, 9, 160, 0, 16, 42]
abbrev dktX0_counted_4 : List UInt8 := dkwX0_counted_4 ++ dktX0_counted_5
def dkwX0_counted_3 : List UInt8 := [160, 0, 19, 42, 180, 0, 37, 29, 50, 193, 0, 107, 153, 0, 7, 4, 167, 0, 4, 3, 96, 61]
abbrev dktX0_counted_3 : List UInt8 := dkwX0_counted_3 ++ dktX0_counted_4
def dkwX0_counted_2 : List UInt8 := [96, 61, 28, 27, 16, 7, 160, 0, 15, 42, 180, 0, 37, 29, 50, 193, 0, 104, 154, 0, 21, 27, 16, 8]
abbrev dktX0_counted_2 : List UInt8 := dkwX0_counted_2 ++ dktX0_counted_3
def dkwX0_counted_1 : List UInt8 := [96, 46, 167, 0, 22, 27, 16, 6, 160, 0, 15, 42, 180, 0, 41, 16, 14, 29, 96, 46, 167, 0, 4, 3]
abbrev dktX0_counted_1 : List UInt8 := dkwX0_counted_1 ++ dktX0_counted_2
def dkwX0_counted_0 : List UInt8 := [3, 61, 3, 62, 29, 42, 180, 0, 116, 162, 0, 91, 28, 27, 8, 160, 0, 14, 42, 180, 0, 41, 5, 29]
abbrev dktX0_counted_0 : List UInt8 := dkwX0_counted_0 ++ dktX0_counted_1
theorem dksX0_counted_0 : cX0_counted.data.toList.drop 0 = dktX0_counted_0 := by decide +kernel
theorem dksX0_counted_1 : cX0_counted.data.toList.drop 24 = dktX0_counted_1 := dk_seg dksX0_counted_0 24 rfl rfl
theorem dksX0_counted_2 : cX0_counted.data.toList.drop 48 = dktX0_counted_2 := dk_seg dksX0_counted_1 24 rfl rfl
theorem dksX0_counted_3 : cX0_counted.data.toList.drop 72 = dktX0_counted_3 := dk_seg dksX0_counted_2 24 rfl rfl
theorem dksX0_counted_4 : cX0_counted.data.toList.drop 94 = dktX0_counted_4 := dk_seg dksX0_counted_3 22 rfl rfl
theorem dksX0_counted_5 : cX0_counted.data.toList.drop 116 = dktX0_counted_5 := dk_seg dksX0_counted_4 22 rfl rfl
theorem dksX0_counted_6 : cX0_counted.data.toList.drop 140 = dktX0_counted_6 := dk_seg dksX0_counted_5 24 rfl rfl
theorem dksX0_counted_7 : cX0_counted.data.toList.drop 164 = dktX0_counted_7 := dk_seg dksX0_counted_6 24 rfl rfl
theorem dksX0_counted_8 : cX0_counted.data.toList.drop 188 = dktX0_counted_8 := dk_seg dksX0_counted_7 24 rfl rfl
theorem dksX0_counted_9 : cX0_counted.data.toList.drop 210 = dktX0_counted_9 := dk_seg dksX0_counted_8 22 rfl rfl
theorem dksX0_counted_10 : cX0_counted.data.toList.drop 231 = dktX0_counted_10 := dk_seg dksX0_counted_9 21 rfl rfl
theorem dksX0_counted_11 : cX0_counted.data.toList.drop 264 = dktX0_counted_11 := dk_seg dksX0_counted_10 33 rfl rfl
theorem dksX0_counted_12 : cX0_counted.data.toList.drop 288 = dktX0_counted_12 := dk_seg dksX0_counted_11 24 rfl rfl
theorem dX0_counted_0 : decode cX0_counted 0 = .ok (.iconst 0, 1) := dk_3 (dk_at dksX0_counted_0 0 rfl rfl)
theorem dX0_counted_1 : decode cX0_counted 1 = .ok (.istore_n 2, 1) := dk_61 (dk_at dksX0_counted_0 1 rfl rfl)
theorem dX0_counted_2 : decode cX0_counted 2 = .ok (.iconst 0, 1) := dk_3 (dk_at dksX0_counted_0 2 rfl rfl)
theorem dX0_counted_3 : decode cX0_counted 3 = .ok (.istore_n 3, 1) := dk_62 (dk_at dksX0_counted_0 3 rfl rfl)
theorem dX0_counted_4 : decode cX0_counted 4 = .ok (.iload_n 3, 1) := dk_29 (dk_at dksX0_counted_0 4 rfl rfl)
theorem dX0_counted_5 : decode cX0_counted 5 = .ok (.aload_n 0, 1) := dk_42 (dk_at dksX0_counted_0 5 rfl rfl)
theorem dX0_counted_6 : decode cX0_counted 6 = .ok (.getfield 116, 3) := dk_180 0 116 (dk_at dksX0_counted_0 6 rfl rfl)
theorem dX0_counted_9 : decode cX0_counted 9 = .ok (.if_icmp .ge 91, 3) := dk_162 0 91 (dk_at dksX0_counted_0 9 rfl rfl)
theorem dX0_counted_12 : decode cX0_counted 12 = .ok (.iload_n 2, 1) := dk_28 (dk_at dksX0_counted_0 12 rfl rfl)
theorem dX0_counted_13 : decode cX0_counted 13 = .ok (.iload_n 1, 1) := dk_27 (dk_at dksX0_counted_0 13 rfl rfl)
theorem dX0_counted_14 : decode cX0_counted 14 = .ok (.iconst 5, 1) := dk_8 (dk_at dksX0_counted_0 14 rfl rfl)
theorem dX0_counted_15 : decode cX0_counted 15 = .ok (.if_icmp .ne 14, 3) := dk_160 0 14 (dk_at dksX0_counted_0 15 rfl rfl)
theorem dX0_counted_18 : decode cX0_counted 18 = .ok (.aload_n 0, 1) := dk_42 (dk_at dksX0_counted_0 18 rfl rfl)
theorem dX0_counted_19 : decode cX0_counted 19 = .ok (.getfield 41, 3) := dk_180 0 41 (dk_at dksX0_counted_0 19 rfl rfl)
theorem dX0_counted_22 : decode cX0_counted 22 = .ok (.iconst 2, 1) := dk_5 (dk_at dksX0_counted_0 22 rfl rfl)
theorem dX0_counted_23 : decode cX0_counted 23 = .ok (.iload_n 3, 1) := dk_29 (dk_at dksX0_counted_0 23 rfl rfl)
theorem dX0_counted_24 : decode cX0_counted 24 = .ok (.iadd, 1) := dk_96 (dk_at dksX0_counted_1 0 rfl rfl)
theorem dX0_counted_25 : decode cX0_counted 25 = .ok (.iaload, 1) := dk_46 (dk_at dksX0_counted_1 1 rfl rfl)
theorem dX0_counted_26 : decode cX0_counted 26 = .ok (.goto 22, 3) := dk_167 0 22 (dk_at dksX0_counted_1 2 rfl rfl)
theorem dX0_counted_29 : decode cX0_counted 29 = .ok (.iload_n 1, 1) := dk_27 (dk_at dksX0_counted_1 5 rfl rfl)
theorem dX0_counted_30 : decode cX0_counted 30 = .ok (.bipush 6, 2) := dk_16 6 (dk_at dksX0_counted_1 6 rfl rfl)
theorem dX0_counted_32 : decode cX0_counted 32 = .ok (.if_icmp .ne 15, 3) := dk_160 0 15 (dk_at dksX0_counted_1 8 rfl rfl)
theorem dX0_counted_35 : decode cX0_counted 35 = .ok (.aload_n 0, 1) := dk_42 (dk_at dksX0_counted_1 11 rfl rfl)
theorem dX0_counted_36 : decode cX0_counted 36 = .ok (.getfield 41, 3) := dk_180 0 41 (dk_at dksX0_counted_1 12 rfl rfl)
theorem dX0_counted_39 : decode cX0_counted 39 = .ok (.bipush 14, 2) := dk_16 14 (dk_at dksX0_counted_1 15 rfl rfl)
theorem dX0_counted_41 : decode cX0_counted 41 = .ok (.iload_n 3, 1) := dk_29 (dk_at dksX0_counted_1 17 rfl rfl)
theorem dX0_counted_42 : decode cX0_counted 42 = .ok (.iadd, 1) := dk_96 (dk_at dksX0_counted_1 18 rfl rfl)
theorem dX0_counted_43 : decode cX0_counted 43 = .ok (.iaload, 1) := dk_46 (dk_at dksX0_counted_1 19 rfl rfl)
theorem dX0_counted_44 : decode cX0_counted 44 = .ok (.goto 4, 3) := dk_167 0 4 (dk_at dksX0_counted_1 20 rfl rfl)
theorem dX0_counted_47 : decode cX0_counted 47 = .ok (.iconst 0, 1) := dk_3 (dk_at dksX0_counted_1 23 rfl rfl)
theorem dX0_counted_48 : decode cX0_counted 48 = .ok (.iadd, 1) := dk_96 (dk_at dksX0_counted_2 0 rfl rfl)
theorem dX0_counted_49 : decode cX0_counted 49 = .ok (.istore_n 2, 1) := dk_61 (dk_at dksX0_counted_2 1 rfl rfl)
theorem dX0_counted_50 : decode cX0_counted 50 = .ok (.iload_n 2, 1) := dk_28 (dk_at dksX0_counted_2 2 rfl rfl)
theorem dX0_counted_51 : decode cX0_counted 51 = .ok (.iload_n 1, 1) := dk_27 (dk_at dksX0_counted_2 3 rfl rfl)
theorem dX0_counted_52 : decode cX0_counted 52 = .ok (.bipush 7, 2) := dk_16 7 (dk_at dksX0_counted_2 4 rfl rfl)
theorem dX0_counted_54 : decode cX0_counted 54 = .ok (.if_icmp .ne 15, 3) := dk_160 0 15 (dk_at dksX0_counted_2 6 rfl rfl)
theorem dX0_counted_57 : decode cX0_counted 57 = .ok (.aload_n 0, 1) := dk_42 (dk_at dksX0_counted_2 9 rfl rfl)
theorem dX0_counted_58 : decode cX0_counted 58 = .ok (.getfield 37, 3) := dk_180 0 37 (dk_at dksX0_counted_2 10 rfl rfl)
theorem dX0_counted_61 : decode cX0_counted 61 = .ok (.iload_n 3, 1) := dk_29 (dk_at dksX0_counted_2 13 rfl rfl)
theorem dX0_counted_62 : decode cX0_counted 62 = .ok (.aaload, 1) := dk_50 (dk_at dksX0_counted_2 14 rfl rfl)
theorem dX0_counted_63 : decode cX0_counted 63 = .ok (.instanceof 104, 3) := dk_193 0 104 (dk_at dksX0_counted_2 15 rfl rfl)
theorem dX0_counted_66 : decode cX0_counted 66 = .ok (.ifCond .ne 21, 3) := dk_154 0 21 (dk_at dksX0_counted_2 18 rfl rfl)
theorem dX0_counted_69 : decode cX0_counted 69 = .ok (.iload_n 1, 1) := dk_27 (dk_at dksX0_counted_2 21 rfl rfl)
theorem dX0_counted_70 : decode cX0_counted 70 = .ok (.bipush 8, 2) := dk_16 8 (dk_at dksX0_counted_2 22 rfl rfl)
theorem dX0_counted_72 : decode cX0_counted 72 = .ok (.if_icmp .ne 19, 3) := dk_160 0 19 (dk_at dksX0_counted_3 0 rfl rfl)
theorem dX0_counted_75 : decode cX0_counted 75 = .ok (.aload_n 0, 1) := dk_42 (dk_at dksX0_counted_3 3 rfl rfl)
theorem dX0_counted_76 : decode cX0_counted 76 = .ok (.getfield 37, 3) := dk_180 0 37 (dk_at dksX0_counted_3 4 rfl rfl)
theorem dX0_counted_79 : decode cX0_counted 79 = .ok (.iload_n 3, 1) := dk_29 (dk_at dksX0_counted_3 7 rfl rfl)
theorem dX0_counted_80 : decode cX0_counted 80 = .ok (.aaload, 1) := dk_50 (dk_at dksX0_counted_3 8 rfl rfl)
theorem dX0_counted_81 : decode cX0_counted 81 = .ok (.instanceof 107, 3) := dk_193 0 107 (dk_at dksX0_counted_3 9 rfl rfl)
theorem dX0_counted_84 : decode cX0_counted 84 = .ok (.ifCond .eq 7, 3) := dk_153 0 7 (dk_at dksX0_counted_3 12 rfl rfl)
theorem dX0_counted_87 : decode cX0_counted 87 = .ok (.iconst 1, 1) := dk_4 (dk_at dksX0_counted_3 15 rfl rfl)
theorem dX0_counted_88 : decode cX0_counted 88 = .ok (.goto 4, 3) := dk_167 0 4 (dk_at dksX0_counted_3 16 rfl rfl)
theorem dX0_counted_91 : decode cX0_counted 91 = .ok (.iconst 0, 1) := dk_3 (dk_at dksX0_counted_3 19 rfl rfl)
theorem dX0_counted_92 : decode cX0_counted 92 = .ok (.iadd, 1) := dk_96 (dk_at dksX0_counted_3 20 rfl rfl)
theorem dX0_counted_93 : decode cX0_counted 93 = .ok (.istore_n 2, 1) := dk_61 (dk_at dksX0_counted_3 21 rfl rfl)
theorem dX0_counted_94 : decode cX0_counted 94 = .ok (.iinc 3 1, 3) := dk_132 3 1 (dk_at dksX0_counted_4 0 rfl rfl)
theorem dX0_counted_97 : decode cX0_counted 97 = .ok (.goto (-93), 3) := dk_167 255 163 (dk_at dksX0_counted_4 3 rfl rfl)
theorem dX0_counted_100 : decode cX0_counted 100 = .ok (.iconst 0, 1) := dk_3 (dk_at dksX0_counted_4 6 rfl rfl)
theorem dX0_counted_101 : decode cX0_counted 101 = .ok (.istore_n 3, 1) := dk_62 (dk_at dksX0_counted_4 7 rfl rfl)
theorem dX0_counted_102 : decode cX0_counted 102 = .ok (.iload_n 3, 1) := dk_29 (dk_at dksX0_counted_4 8 rfl rfl)
theorem dX0_counted_103 : decode cX0_counted 103 = .ok (.bipush 6, 2) := dk_16 6 (dk_at dksX0_counted_4 9 rfl rfl)
theorem dX0_counted_105 : decode cX0_counted 105 = .ok (.if_icmp .ge 32, 3) := dk_162 0 32 (dk_at dksX0_counted_4 11 rfl rfl)
theorem dX0_counted_108 : decode cX0_counted 108 = .ok (.iload_n 2, 1) := dk_28 (dk_at dksX0_counted_4 14 rfl rfl)
theorem dX0_counted_109 : decode cX0_counted 109 = .ok (.iload_n 1, 1) := dk_27 (dk_at dksX0_counted_4 15 rfl rfl)
theorem dX0_counted_110 : decode cX0_counted 110 = .ok (.bipush 9, 2) := dk_16 9 (dk_at dksX0_counted_4 16 rfl rfl)
theorem dX0_counted_112 : decode cX0_counted 112 = .ok (.if_icmp .ne 16, 3) := dk_160 0 16 (dk_at dksX0_counted_4 18 rfl rfl)
theorem dX0_counted_115 : decode cX0_counted 115 = .ok (.aload_n 0, 1) := dk_42 (dk_at dksX0_counted_4 21 rfl rfl)
theorem dX0_counted_116 : decode cX0_counted 116 = .ok (.getfield 25, 3) := dk_180 0 25 (dk_at dksX0_counted_5 0 rfl rfl)
theorem dX0_counted_119 : decode cX0_counted 119 = .ok (.iload_n 3, 1) := dk_29 (dk_at dksX0_counted_5 3 rfl rfl)
theorem dX0_counted_120 : decode cX0_counted 120 = .ok (.aaload, 1) := dk_50 (dk_at dksX0_counted_5 4 rfl rfl)
theorem dX0_counted_121 : decode cX0_counted 121 = .ok (.ifnull 7, 3) := dk_198 0 7 (dk_at dksX0_counted_5 5 rfl rfl)
theorem dX0_counted_124 : decode cX0_counted 124 = .ok (.iconst 1, 1) := dk_4 (dk_at dksX0_counted_5 8 rfl rfl)
theorem dX0_counted_125 : decode cX0_counted 125 = .ok (.goto 4, 3) := dk_167 0 4 (dk_at dksX0_counted_5 9 rfl rfl)
theorem dX0_counted_128 : decode cX0_counted 128 = .ok (.iconst 0, 1) := dk_3 (dk_at dksX0_counted_5 12 rfl rfl)
theorem dX0_counted_129 : decode cX0_counted 129 = .ok (.iadd, 1) := dk_96 (dk_at dksX0_counted_5 13 rfl rfl)
theorem dX0_counted_130 : decode cX0_counted 130 = .ok (.istore_n 2, 1) := dk_61 (dk_at dksX0_counted_5 14 rfl rfl)
theorem dX0_counted_131 : decode cX0_counted 131 = .ok (.iinc 3 1, 3) := dk_132 3 1 (dk_at dksX0_counted_5 15 rfl rfl)
theorem dX0_counted_134 : decode cX0_counted 134 = .ok (.goto (-32), 3) := dk_167 255 224 (dk_at dksX0_counted_5 18 rfl rfl)
theorem dX0_counted_137 : decode cX0_counted 137 = .ok (.iconst 0, 1) := dk_3 (dk_at dksX0_counted_5 21 rfl rfl)
theorem dX0_counted_138 : decode cX0_counted 138 = .ok (.istore_n 3, 1) := dk_62 (dk_at dksX0_counted_5 22 rfl rfl)
theorem dX0_counted_139 : decode cX0_counted 139 = .ok (.iload_n 3, 1) := dk_29 (dk_at dksX0_counted_5 23 rfl rfl)
theorem dX0_counted_140 : decode cX0_counted 140 = .ok (.iconst 4, 1) := dk_7 (dk_at dksX0_counted_6 0 rfl rfl)
theorem dX0_counted_141 : decode cX0_counted 141 = .ok (.if_icmp .ge 32, 3) := dk_162 0 32 (dk_at dksX0_counted_6 1 rfl rfl)
theorem dX0_counted_144 : decode cX0_counted 144 = .ok (.iload_n 2, 1) := dk_28 (dk_at dksX0_counted_6 4 rfl rfl)
theorem dX0_counted_145 : decode cX0_counted 145 = .ok (.iload_n 1, 1) := dk_27 (dk_at dksX0_counted_6 5 rfl rfl)
theorem dX0_counted_146 : decode cX0_counted 146 = .ok (.bipush 10, 2) := dk_16 10 (dk_at dksX0_counted_6 6 rfl rfl)
theorem dX0_counted_148 : decode cX0_counted 148 = .ok (.if_icmp .ne 16, 3) := dk_160 0 16 (dk_at dksX0_counted_6 8 rfl rfl)
theorem dX0_counted_151 : decode cX0_counted 151 = .ok (.aload_n 0, 1) := dk_42 (dk_at dksX0_counted_6 11 rfl rfl)
theorem dX0_counted_152 : decode cX0_counted 152 = .ok (.getfield 31, 3) := dk_180 0 31 (dk_at dksX0_counted_6 12 rfl rfl)
theorem dX0_counted_155 : decode cX0_counted 155 = .ok (.iload_n 3, 1) := dk_29 (dk_at dksX0_counted_6 15 rfl rfl)
theorem dX0_counted_156 : decode cX0_counted 156 = .ok (.aaload, 1) := dk_50 (dk_at dksX0_counted_6 16 rfl rfl)
theorem dX0_counted_157 : decode cX0_counted 157 = .ok (.ifnull 7, 3) := dk_198 0 7 (dk_at dksX0_counted_6 17 rfl rfl)
theorem dX0_counted_160 : decode cX0_counted 160 = .ok (.iconst 1, 1) := dk_4 (dk_at dksX0_counted_6 20 rfl rfl)
theorem dX0_counted_161 : decode cX0_counted 161 = .ok (.goto 4, 3) := dk_167 0 4 (dk_at dksX0_counted_6 21 rfl rfl)
theorem dX0_counted_164 : decode cX0_counted 164 = .ok (.iconst 0, 1) := dk_3 (dk_at dksX0_counted_7 0 rfl rfl)
theorem dX0_counted_165 : decode cX0_counted 165 = .ok (.iadd, 1) := dk_96 (dk_at dksX0_counted_7 1 rfl rfl)
theorem dX0_counted_166 : decode cX0_counted 166 = .ok (.istore_n 2, 1) := dk_61 (dk_at dksX0_counted_7 2 rfl rfl)
theorem dX0_counted_167 : decode cX0_counted 167 = .ok (.iinc 3 1, 3) := dk_132 3 1 (dk_at dksX0_counted_7 3 rfl rfl)
theorem dX0_counted_170 : decode cX0_counted 170 = .ok (.goto (-31), 3) := dk_167 255 225 (dk_at dksX0_counted_7 6 rfl rfl)
theorem dX0_counted_173 : decode cX0_counted 173 = .ok (.iconst 0, 1) := dk_3 (dk_at dksX0_counted_7 9 rfl rfl)
theorem dX0_counted_174 : decode cX0_counted 174 = .ok (.istore_n 3, 1) := dk_62 (dk_at dksX0_counted_7 10 rfl rfl)
theorem dX0_counted_175 : decode cX0_counted 175 = .ok (.iload_n 3, 1) := dk_29 (dk_at dksX0_counted_7 11 rfl rfl)
theorem dX0_counted_176 : decode cX0_counted 176 = .ok (.aload_n 0, 1) := dk_42 (dk_at dksX0_counted_7 12 rfl rfl)
theorem dX0_counted_177 : decode cX0_counted 177 = .ok (.getfield 50, 3) := dk_180 0 50 (dk_at dksX0_counted_7 13 rfl rfl)
theorem dX0_counted_180 : decode cX0_counted 180 = .ok (.arraylength, 1) := dk_190 (dk_at dksX0_counted_7 16 rfl rfl)
theorem dX0_counted_181 : decode cX0_counted 181 = .ok (.if_icmp .ge 32, 3) := dk_162 0 32 (dk_at dksX0_counted_7 17 rfl rfl)
theorem dX0_counted_184 : decode cX0_counted 184 = .ok (.iload_n 2, 1) := dk_28 (dk_at dksX0_counted_7 20 rfl rfl)
theorem dX0_counted_185 : decode cX0_counted 185 = .ok (.iload_n 1, 1) := dk_27 (dk_at dksX0_counted_7 21 rfl rfl)
theorem dX0_counted_186 : decode cX0_counted 186 = .ok (.bipush 11, 2) := dk_16 11 (dk_at dksX0_counted_7 22 rfl rfl)
theorem dX0_counted_188 : decode cX0_counted 188 = .ok (.if_icmp .ne 16, 3) := dk_160 0 16 (dk_at dksX0_counted_8 0 rfl rfl)
theorem dX0_counted_191 : decode cX0_counted 191 = .ok (.aload_n 0, 1) := dk_42 (dk_at dksX0_counted_8 3 rfl rfl)
theorem dX0_counted_192 : decode cX0_counted 192 = .ok (.getfield 50, 3) := dk_180 0 50 (dk_at dksX0_counted_8 4 rfl rfl)
theorem dX0_counted_195 : decode cX0_counted 195 = .ok (.iload_n 3, 1) := dk_29 (dk_at dksX0_counted_8 7 rfl rfl)
theorem dX0_counted_196 : decode cX0_counted 196 = .ok (.aaload, 1) := dk_50 (dk_at dksX0_counted_8 8 rfl rfl)
theorem dX0_counted_197 : decode cX0_counted 197 = .ok (.ifnull 7, 3) := dk_198 0 7 (dk_at dksX0_counted_8 9 rfl rfl)
theorem dX0_counted_200 : decode cX0_counted 200 = .ok (.iconst 1, 1) := dk_4 (dk_at dksX0_counted_8 12 rfl rfl)
theorem dX0_counted_201 : decode cX0_counted 201 = .ok (.goto 4, 3) := dk_167 0 4 (dk_at dksX0_counted_8 13 rfl rfl)
theorem dX0_counted_204 : decode cX0_counted 204 = .ok (.iconst 0, 1) := dk_3 (dk_at dksX0_counted_8 16 rfl rfl)
theorem dX0_counted_205 : decode cX0_counted 205 = .ok (.iadd, 1) := dk_96 (dk_at dksX0_counted_8 17 rfl rfl)
theorem dX0_counted_206 : decode cX0_counted 206 = .ok (.istore_n 2, 1) := dk_61 (dk_at dksX0_counted_8 18 rfl rfl)
theorem dX0_counted_207 : decode cX0_counted 207 = .ok (.iinc 3 1, 3) := dk_132 3 1 (dk_at dksX0_counted_8 19 rfl rfl)
theorem dX0_counted_210 : decode cX0_counted 210 = .ok (.goto (-35), 3) := dk_167 255 221 (dk_at dksX0_counted_9 0 rfl rfl)
theorem dX0_counted_213 : decode cX0_counted 213 = .ok (.iload_n 1, 1) := dk_27 (dk_at dksX0_counted_9 3 rfl rfl)
theorem dX0_counted_214 : decode cX0_counted 214 = .ok (.iconst 4, 1) := dk_7 (dk_at dksX0_counted_9 4 rfl rfl)
theorem dX0_counted_215 : decode cX0_counted 215 = .ok (.if_icmp .ne 12, 3) := dk_160 0 12 (dk_at dksX0_counted_9 5 rfl rfl)
theorem dX0_counted_218 : decode cX0_counted 218 = .ok (.aload_n 0, 1) := dk_42 (dk_at dksX0_counted_9 8 rfl rfl)
theorem dX0_counted_219 : decode cX0_counted 219 = .ok (.iconst 0, 1) := dk_3 (dk_at dksX0_counted_9 9 rfl rfl)
theorem dX0_counted_220 : decode cX0_counted 220 = .ok (.iconst 0, 1) := dk_3 (dk_at dksX0_counted_9 10 rfl rfl)
theorem dX0_counted_221 : decode cX0_counted 221 = .ok (.invokevirtual 152, 3) := dk_182 0 152 (dk_at dksX0_counted_9 11 rfl rfl)
theorem dX0_counted_224 : decode cX0_counted 224 = .ok (.goto 5, 3) := dk_167 0 5 (dk_at dksX0_counted_9 14 rfl rfl)
theorem dX0_counted_227 : decode cX0_counted 227 = .ok (.bipush (-9), 2) := dk_16 247 (dk_at dksX0_counted_9 17 rfl rfl)
theorem dX0_counted_229 : decode cX0_counted 229 = .ok (.istore_n 3, 1) := dk_62 (dk_at dksX0_counted_9 19 rfl rfl)
theorem dX0_counted_230 : decode cX0_counted 230 = .ok (.iload_n 1, 1) := dk_27 (dk_at dksX0_counted_9 20 rfl rfl)
theorem dX0_counted_231 : decode cX0_counted 231 = .ok (.tableswitch 71 0 4 #[33, 38, 45, 50, 57], 33) := by decide +kernel
theorem dX0_counted_264 : decode cX0_counted 264 = .ok (.aload_n 0, 1) := dk_42 (dk_at dksX0_counted_11 0 rfl rfl)
theorem dX0_counted_265 : decode cX0_counted 265 = .ok (.getfield 116, 3) := dk_180 0 116 (dk_at dksX0_counted_11 1 rfl rfl)
theorem dX0_counted_268 : decode cX0_counted 268 = .ok (.ireturn, 1) := dk_172 (dk_at dksX0_counted_11 4 rfl rfl)
theorem dX0_counted_269 : decode cX0_counted 269 = .ok (.aload_n 0, 1) := dk_42 (dk_at dksX0_counted_11 5 rfl rfl)
theorem dX0_counted_270 : decode cX0_counted 270 = .ok (.getfield 41, 3) := dk_180 0 41 (dk_at dksX0_counted_11 6 rfl rfl)
theorem dX0_counted_273 : decode cX0_counted 273 = .ok (.iconst 0, 1) := dk_3 (dk_at dksX0_counted_11 9 rfl rfl)
theorem dX0_counted_274 : decode cX0_counted 274 = .ok (.iaload, 1) := dk_46 (dk_at dksX0_counted_11 10 rfl rfl)
theorem dX0_counted_275 : decode cX0_counted 275 = .ok (.ireturn, 1) := dk_172 (dk_at dksX0_counted_11 11 rfl rfl)
theorem dX0_counted_276 : decode cX0_counted 276 = .ok (.aload_n 0, 1) := dk_42 (dk_at dksX0_counted_11 12 rfl rfl)
theorem dX0_counted_277 : decode cX0_counted 277 = .ok (.getfield 202, 3) := dk_180 0 202 (dk_at dksX0_counted_11 13 rfl rfl)
theorem dX0_counted_280 : decode cX0_counted 280 = .ok (.ireturn, 1) := dk_172 (dk_at dksX0_counted_11 16 rfl rfl)
theorem dX0_counted_281 : decode cX0_counted 281 = .ok (.aload_n 0, 1) := dk_42 (dk_at dksX0_counted_11 17 rfl rfl)
theorem dX0_counted_282 : decode cX0_counted 282 = .ok (.getfield 41, 3) := dk_180 0 41 (dk_at dksX0_counted_11 18 rfl rfl)
theorem dX0_counted_285 : decode cX0_counted 285 = .ok (.iconst 1, 1) := dk_4 (dk_at dksX0_counted_11 21 rfl rfl)
theorem dX0_counted_286 : decode cX0_counted 286 = .ok (.iaload, 1) := dk_46 (dk_at dksX0_counted_11 22 rfl rfl)
theorem dX0_counted_287 : decode cX0_counted 287 = .ok (.ireturn, 1) := dk_172 (dk_at dksX0_counted_11 23 rfl rfl)
theorem dX0_counted_288 : decode cX0_counted 288 = .ok (.iload_n 3, 1) := dk_29 (dk_at dksX0_counted_12 0 rfl rfl)
theorem dX0_counted_289 : decode cX0_counted 289 = .ok (.bipush (-9), 2) := dk_16 247 (dk_at dksX0_counted_12 1 rfl rfl)
theorem dX0_counted_291 : decode cX0_counted 291 = .ok (.if_icmp .ne 7, 3) := dk_160 0 7 (dk_at dksX0_counted_12 3 rfl rfl)
theorem dX0_counted_294 : decode cX0_counted 294 = .ok (.iconst 0, 1) := dk_3 (dk_at dksX0_counted_12 6 rfl rfl)
theorem dX0_counted_295 : decode cX0_counted 295 = .ok (.goto 6, 3) := dk_167 0 6 (dk_at dksX0_counted_12 7 rfl rfl)
theorem dX0_counted_298 : decode cX0_counted 298 = .ok (.iconst 1, 1) := dk_4 (dk_at dksX0_counted_12 10 rfl rfl)
theorem dX0_counted_299 : decode cX0_counted 299 = .ok (.iload_n 3, 1) := dk_29 (dk_at dksX0_counted_12 11 rfl rfl)
theorem dX0_counted_300 : decode cX0_counted 300 = .ok (.ishl, 1) := dk_120 (dk_at dksX0_counted_12 12 rfl rfl)
theorem dX0_counted_301 : decode cX0_counted 301 = .ok (.ireturn, 1) := dk_172 (dk_at dksX0_counted_12 13 rfl rfl)
theorem dX0_counted_302 : decode cX0_counted 302 = .ok (.iload_n 2, 1) := dk_28 (dk_at dksX0_counted_12 14 rfl rfl)
theorem dX0_counted_303 : decode cX0_counted 303 = .ok (.ireturn, 1) := dk_172 (dk_at dksX0_counted_12 15 rfl rfl)
abbrev cX0_finding : ByteArray := prog_1_method_86_code
def yX0_finding : MethodName := ⟨RX0, "finding", "()I"⟩
theorem dX0_finding_0 : decode cX0_finding 0 = .ok (.aload_n 0, 1) := by decide +kernel
theorem dX0_finding_1 : decode cX0_finding 1 = .ok (.getfield 3, 3) := by decide +kernel
theorem dX0_finding_4 : decode cX0_finding 4 = .ok (.ireturn, 1) := by decide +kernel
abbrev cX0_findings : ByteArray := prog_1_method_87_code
def yX0_findings : MethodName := ⟨RX0, "findings", "(I)I"⟩
def dkwX0_findings_0 : List UInt8 := [27, 4, 8, 184, 0, 65, 153, 0, 12, 42, 180, 0, 7, 27, 46, 167, 0, 4, 2, 172]
abbrev dktX0_findings_0 : List UInt8 := dkwX0_findings_0 ++ []
theorem dksX0_findings_0 : cX0_findings.data.toList.drop 0 = dktX0_findings_0 := by decide +kernel
theorem dX0_findings_0 : decode cX0_findings 0 = .ok (.iload_n 1, 1) := dk_27 (dk_at dksX0_findings_0 0 rfl rfl)
theorem dX0_findings_1 : decode cX0_findings 1 = .ok (.iconst 1, 1) := dk_4 (dk_at dksX0_findings_0 1 rfl rfl)
theorem dX0_findings_2 : decode cX0_findings 2 = .ok (.iconst 5, 1) := dk_8 (dk_at dksX0_findings_0 2 rfl rfl)
theorem dX0_findings_3 : decode cX0_findings 3 = .ok (.invokestatic 65, 3) := dk_184 0 65 (dk_at dksX0_findings_0 3 rfl rfl)
theorem dX0_findings_6 : decode cX0_findings 6 = .ok (.ifCond .eq 12, 3) := dk_153 0 12 (dk_at dksX0_findings_0 6 rfl rfl)
theorem dX0_findings_9 : decode cX0_findings 9 = .ok (.aload_n 0, 1) := dk_42 (dk_at dksX0_findings_0 9 rfl rfl)
theorem dX0_findings_10 : decode cX0_findings 10 = .ok (.getfield 7, 3) := dk_180 0 7 (dk_at dksX0_findings_0 10 rfl rfl)
theorem dX0_findings_13 : decode cX0_findings 13 = .ok (.iload_n 1, 1) := dk_27 (dk_at dksX0_findings_0 13 rfl rfl)
theorem dX0_findings_14 : decode cX0_findings 14 = .ok (.iaload, 1) := dk_46 (dk_at dksX0_findings_0 14 rfl rfl)
theorem dX0_findings_15 : decode cX0_findings 15 = .ok (.goto 4, 3) := dk_167 0 4 (dk_at dksX0_findings_0 15 rfl rfl)
theorem dX0_findings_18 : decode cX0_findings 18 = .ok (.iconst (-1), 1) := dk_2 (dk_at dksX0_findings_0 18 rfl rfl)
theorem dX0_findings_19 : decode cX0_findings 19 = .ok (.ireturn, 1) := dk_172 (dk_at dksX0_findings_0 19 rfl rfl)
abbrev cX0_digest : ByteArray := prog_1_method_90_code
def yX0_digest : MethodName := ⟨RX0, "digest", "()J"⟩
def dkwX0_digest_7 : List UInt8 := [42, 180, 1, 86, 173]
abbrev dktX0_digest_7 : List UInt8 := dkwX0_digest_7 ++ []
def dkwX0_digest_6 : List UInt8 := [190, 162, 0, 17, 42, 44, 29, 51, 133, 182, 1, 89, 132, 3, 1, 167, 255, 235, 132, 1, 1, 167, 255, 198]
abbrev dktX0_digest_6 : List UInt8 := dkwX0_digest_6 ++ dktX0_digest_7
def dkwX0_digest_5 : List UInt8 := [44, 199, 0, 9, 20, 1, 93, 167, 0, 6, 44, 190, 133, 182, 1, 89, 3, 62, 44, 198, 0, 23, 29, 44]
abbrev dktX0_digest_5 : List UInt8 := dkwX0_digest_5 ++ dktX0_digest_6
def dkwX0_digest_4 : List UInt8 := [167, 255, 235, 132, 1, 1, 167, 255, 197, 3, 60, 27, 7, 162, 0, 59, 42, 180, 0, 31, 27, 50, 77, 42]
abbrev dktX0_digest_4 : List UInt8 := dkwX0_digest_4 ++ dktX0_digest_5
def dkwX0_digest_3 : List UInt8 := [62, 44, 198, 0, 23, 29, 44, 190, 162, 0, 17, 42, 44, 29, 46, 133, 182, 1, 89, 132, 3, 1]
abbrev dktX0_digest_3 : List UInt8 := dkwX0_digest_3 ++ dktX0_digest_4
def dkwX0_digest_2 : List UInt8 := [180, 0, 25, 27, 50, 77, 42, 44, 199, 0, 9, 20, 1, 93, 167, 0, 6, 44, 190, 133, 182, 1, 89, 3]
abbrev dktX0_digest_2 : List UInt8 := dkwX0_digest_2 ++ dktX0_digest_3
def dkwX0_digest_1 : List UInt8 := [182, 1, 89, 132, 1, 1, 167, 255, 237, 42, 182, 1, 97, 3, 60, 27, 16, 6, 162, 0, 59, 42]
abbrev dktX0_digest_1 : List UInt8 := dkwX0_digest_1 ++ dktX0_digest_2
def dkwX0_digest_0 : List UInt8 := [42, 20, 1, 95, 181, 1, 86, 3, 60, 27, 16, 12, 162, 0, 19, 42, 42, 27, 182, 1, 81, 133]
abbrev dktX0_digest_0 : List UInt8 := dkwX0_digest_0 ++ dktX0_digest_1
theorem dksX0_digest_0 : cX0_digest.data.toList.drop 0 = dktX0_digest_0 := by decide +kernel
theorem dksX0_digest_1 : cX0_digest.data.toList.drop 22 = dktX0_digest_1 := dk_seg dksX0_digest_0 22 rfl rfl
theorem dksX0_digest_2 : cX0_digest.data.toList.drop 44 = dktX0_digest_2 := dk_seg dksX0_digest_1 22 rfl rfl
theorem dksX0_digest_3 : cX0_digest.data.toList.drop 68 = dktX0_digest_3 := dk_seg dksX0_digest_2 24 rfl rfl
theorem dksX0_digest_4 : cX0_digest.data.toList.drop 90 = dktX0_digest_4 := dk_seg dksX0_digest_3 22 rfl rfl
theorem dksX0_digest_5 : cX0_digest.data.toList.drop 114 = dktX0_digest_5 := dk_seg dksX0_digest_4 24 rfl rfl
theorem dksX0_digest_6 : cX0_digest.data.toList.drop 138 = dktX0_digest_6 := dk_seg dksX0_digest_5 24 rfl rfl
theorem dksX0_digest_7 : cX0_digest.data.toList.drop 162 = dktX0_digest_7 := dk_seg dksX0_digest_6 24 rfl rfl
theorem dX0_digest_0 : decode cX0_digest 0 = .ok (.aload_n 0, 1) := dk_42 (dk_at dksX0_digest_0 0 rfl rfl)
theorem dX0_digest_1 : decode cX0_digest 1 = .ok (.ldc2_w 351, 3) := dk_20 1 95 (dk_at dksX0_digest_0 1 rfl rfl)
theorem dX0_digest_4 : decode cX0_digest 4 = .ok (.putfield 342, 3) := dk_181 1 86 (dk_at dksX0_digest_0 4 rfl rfl)
theorem dX0_digest_7 : decode cX0_digest 7 = .ok (.iconst 0, 1) := dk_3 (dk_at dksX0_digest_0 7 rfl rfl)
theorem dX0_digest_8 : decode cX0_digest 8 = .ok (.istore_n 1, 1) := dk_60 (dk_at dksX0_digest_0 8 rfl rfl)
theorem dX0_digest_9 : decode cX0_digest 9 = .ok (.iload_n 1, 1) := dk_27 (dk_at dksX0_digest_0 9 rfl rfl)
theorem dX0_digest_10 : decode cX0_digest 10 = .ok (.bipush 12, 2) := dk_16 12 (dk_at dksX0_digest_0 10 rfl rfl)
theorem dX0_digest_12 : decode cX0_digest 12 = .ok (.if_icmp .ge 19, 3) := dk_162 0 19 (dk_at dksX0_digest_0 12 rfl rfl)
theorem dX0_digest_15 : decode cX0_digest 15 = .ok (.aload_n 0, 1) := dk_42 (dk_at dksX0_digest_0 15 rfl rfl)
theorem dX0_digest_16 : decode cX0_digest 16 = .ok (.aload_n 0, 1) := dk_42 (dk_at dksX0_digest_0 16 rfl rfl)
theorem dX0_digest_17 : decode cX0_digest 17 = .ok (.iload_n 1, 1) := dk_27 (dk_at dksX0_digest_0 17 rfl rfl)
theorem dX0_digest_18 : decode cX0_digest 18 = .ok (.invokevirtual 337, 3) := dk_182 1 81 (dk_at dksX0_digest_0 18 rfl rfl)
theorem dX0_digest_21 : decode cX0_digest 21 = .ok (.i2l, 1) := dk_133 (dk_at dksX0_digest_0 21 rfl rfl)
theorem dX0_digest_22 : decode cX0_digest 22 = .ok (.invokevirtual 345, 3) := dk_182 1 89 (dk_at dksX0_digest_1 0 rfl rfl)
theorem dX0_digest_25 : decode cX0_digest 25 = .ok (.iinc 1 1, 3) := dk_132 1 1 (dk_at dksX0_digest_1 3 rfl rfl)
theorem dX0_digest_28 : decode cX0_digest 28 = .ok (.goto (-19), 3) := dk_167 255 237 (dk_at dksX0_digest_1 6 rfl rfl)
theorem dX0_digest_31 : decode cX0_digest 31 = .ok (.aload_n 0, 1) := dk_42 (dk_at dksX0_digest_1 9 rfl rfl)
theorem dX0_digest_32 : decode cX0_digest 32 = .ok (.invokevirtual 353, 3) := dk_182 1 97 (dk_at dksX0_digest_1 10 rfl rfl)
theorem dX0_digest_35 : decode cX0_digest 35 = .ok (.iconst 0, 1) := dk_3 (dk_at dksX0_digest_1 13 rfl rfl)
theorem dX0_digest_36 : decode cX0_digest 36 = .ok (.istore_n 1, 1) := dk_60 (dk_at dksX0_digest_1 14 rfl rfl)
theorem dX0_digest_37 : decode cX0_digest 37 = .ok (.iload_n 1, 1) := dk_27 (dk_at dksX0_digest_1 15 rfl rfl)
theorem dX0_digest_38 : decode cX0_digest 38 = .ok (.bipush 6, 2) := dk_16 6 (dk_at dksX0_digest_1 16 rfl rfl)
theorem dX0_digest_40 : decode cX0_digest 40 = .ok (.if_icmp .ge 59, 3) := dk_162 0 59 (dk_at dksX0_digest_1 18 rfl rfl)
theorem dX0_digest_43 : decode cX0_digest 43 = .ok (.aload_n 0, 1) := dk_42 (dk_at dksX0_digest_1 21 rfl rfl)
theorem dX0_digest_44 : decode cX0_digest 44 = .ok (.getfield 25, 3) := dk_180 0 25 (dk_at dksX0_digest_2 0 rfl rfl)
theorem dX0_digest_47 : decode cX0_digest 47 = .ok (.iload_n 1, 1) := dk_27 (dk_at dksX0_digest_2 3 rfl rfl)
theorem dX0_digest_48 : decode cX0_digest 48 = .ok (.aaload, 1) := dk_50 (dk_at dksX0_digest_2 4 rfl rfl)
theorem dX0_digest_49 : decode cX0_digest 49 = .ok (.astore_n 2, 1) := dk_77 (dk_at dksX0_digest_2 5 rfl rfl)
theorem dX0_digest_50 : decode cX0_digest 50 = .ok (.aload_n 0, 1) := dk_42 (dk_at dksX0_digest_2 6 rfl rfl)
theorem dX0_digest_51 : decode cX0_digest 51 = .ok (.aload_n 2, 1) := dk_44 (dk_at dksX0_digest_2 7 rfl rfl)
theorem dX0_digest_52 : decode cX0_digest 52 = .ok (.ifnonnull 9, 3) := dk_199 0 9 (dk_at dksX0_digest_2 8 rfl rfl)
theorem dX0_digest_55 : decode cX0_digest 55 = .ok (.ldc2_w 349, 3) := dk_20 1 93 (dk_at dksX0_digest_2 11 rfl rfl)
theorem dX0_digest_58 : decode cX0_digest 58 = .ok (.goto 6, 3) := dk_167 0 6 (dk_at dksX0_digest_2 14 rfl rfl)
theorem dX0_digest_61 : decode cX0_digest 61 = .ok (.aload_n 2, 1) := dk_44 (dk_at dksX0_digest_2 17 rfl rfl)
theorem dX0_digest_62 : decode cX0_digest 62 = .ok (.arraylength, 1) := dk_190 (dk_at dksX0_digest_2 18 rfl rfl)
theorem dX0_digest_63 : decode cX0_digest 63 = .ok (.i2l, 1) := dk_133 (dk_at dksX0_digest_2 19 rfl rfl)
theorem dX0_digest_64 : decode cX0_digest 64 = .ok (.invokevirtual 345, 3) := dk_182 1 89 (dk_at dksX0_digest_2 20 rfl rfl)
theorem dX0_digest_67 : decode cX0_digest 67 = .ok (.iconst 0, 1) := dk_3 (dk_at dksX0_digest_2 23 rfl rfl)
theorem dX0_digest_68 : decode cX0_digest 68 = .ok (.istore_n 3, 1) := dk_62 (dk_at dksX0_digest_3 0 rfl rfl)
theorem dX0_digest_69 : decode cX0_digest 69 = .ok (.aload_n 2, 1) := dk_44 (dk_at dksX0_digest_3 1 rfl rfl)
theorem dX0_digest_70 : decode cX0_digest 70 = .ok (.ifnull 23, 3) := dk_198 0 23 (dk_at dksX0_digest_3 2 rfl rfl)
theorem dX0_digest_73 : decode cX0_digest 73 = .ok (.iload_n 3, 1) := dk_29 (dk_at dksX0_digest_3 5 rfl rfl)
theorem dX0_digest_74 : decode cX0_digest 74 = .ok (.aload_n 2, 1) := dk_44 (dk_at dksX0_digest_3 6 rfl rfl)
theorem dX0_digest_75 : decode cX0_digest 75 = .ok (.arraylength, 1) := dk_190 (dk_at dksX0_digest_3 7 rfl rfl)
theorem dX0_digest_76 : decode cX0_digest 76 = .ok (.if_icmp .ge 17, 3) := dk_162 0 17 (dk_at dksX0_digest_3 8 rfl rfl)
theorem dX0_digest_79 : decode cX0_digest 79 = .ok (.aload_n 0, 1) := dk_42 (dk_at dksX0_digest_3 11 rfl rfl)
theorem dX0_digest_80 : decode cX0_digest 80 = .ok (.aload_n 2, 1) := dk_44 (dk_at dksX0_digest_3 12 rfl rfl)
theorem dX0_digest_81 : decode cX0_digest 81 = .ok (.iload_n 3, 1) := dk_29 (dk_at dksX0_digest_3 13 rfl rfl)
theorem dX0_digest_82 : decode cX0_digest 82 = .ok (.iaload, 1) := dk_46 (dk_at dksX0_digest_3 14 rfl rfl)
theorem dX0_digest_83 : decode cX0_digest 83 = .ok (.i2l, 1) := dk_133 (dk_at dksX0_digest_3 15 rfl rfl)
theorem dX0_digest_84 : decode cX0_digest 84 = .ok (.invokevirtual 345, 3) := dk_182 1 89 (dk_at dksX0_digest_3 16 rfl rfl)
theorem dX0_digest_87 : decode cX0_digest 87 = .ok (.iinc 3 1, 3) := dk_132 3 1 (dk_at dksX0_digest_3 19 rfl rfl)
theorem dX0_digest_90 : decode cX0_digest 90 = .ok (.goto (-21), 3) := dk_167 255 235 (dk_at dksX0_digest_4 0 rfl rfl)
theorem dX0_digest_93 : decode cX0_digest 93 = .ok (.iinc 1 1, 3) := dk_132 1 1 (dk_at dksX0_digest_4 3 rfl rfl)
theorem dX0_digest_96 : decode cX0_digest 96 = .ok (.goto (-59), 3) := dk_167 255 197 (dk_at dksX0_digest_4 6 rfl rfl)
theorem dX0_digest_99 : decode cX0_digest 99 = .ok (.iconst 0, 1) := dk_3 (dk_at dksX0_digest_4 9 rfl rfl)
theorem dX0_digest_100 : decode cX0_digest 100 = .ok (.istore_n 1, 1) := dk_60 (dk_at dksX0_digest_4 10 rfl rfl)
theorem dX0_digest_101 : decode cX0_digest 101 = .ok (.iload_n 1, 1) := dk_27 (dk_at dksX0_digest_4 11 rfl rfl)
theorem dX0_digest_102 : decode cX0_digest 102 = .ok (.iconst 4, 1) := dk_7 (dk_at dksX0_digest_4 12 rfl rfl)
theorem dX0_digest_103 : decode cX0_digest 103 = .ok (.if_icmp .ge 59, 3) := dk_162 0 59 (dk_at dksX0_digest_4 13 rfl rfl)
theorem dX0_digest_106 : decode cX0_digest 106 = .ok (.aload_n 0, 1) := dk_42 (dk_at dksX0_digest_4 16 rfl rfl)
theorem dX0_digest_107 : decode cX0_digest 107 = .ok (.getfield 31, 3) := dk_180 0 31 (dk_at dksX0_digest_4 17 rfl rfl)
theorem dX0_digest_110 : decode cX0_digest 110 = .ok (.iload_n 1, 1) := dk_27 (dk_at dksX0_digest_4 20 rfl rfl)
theorem dX0_digest_111 : decode cX0_digest 111 = .ok (.aaload, 1) := dk_50 (dk_at dksX0_digest_4 21 rfl rfl)
theorem dX0_digest_112 : decode cX0_digest 112 = .ok (.astore_n 2, 1) := dk_77 (dk_at dksX0_digest_4 22 rfl rfl)
theorem dX0_digest_113 : decode cX0_digest 113 = .ok (.aload_n 0, 1) := dk_42 (dk_at dksX0_digest_4 23 rfl rfl)
theorem dX0_digest_114 : decode cX0_digest 114 = .ok (.aload_n 2, 1) := dk_44 (dk_at dksX0_digest_5 0 rfl rfl)
theorem dX0_digest_115 : decode cX0_digest 115 = .ok (.ifnonnull 9, 3) := dk_199 0 9 (dk_at dksX0_digest_5 1 rfl rfl)
theorem dX0_digest_118 : decode cX0_digest 118 = .ok (.ldc2_w 349, 3) := dk_20 1 93 (dk_at dksX0_digest_5 4 rfl rfl)
theorem dX0_digest_121 : decode cX0_digest 121 = .ok (.goto 6, 3) := dk_167 0 6 (dk_at dksX0_digest_5 7 rfl rfl)
theorem dX0_digest_124 : decode cX0_digest 124 = .ok (.aload_n 2, 1) := dk_44 (dk_at dksX0_digest_5 10 rfl rfl)
theorem dX0_digest_125 : decode cX0_digest 125 = .ok (.arraylength, 1) := dk_190 (dk_at dksX0_digest_5 11 rfl rfl)
theorem dX0_digest_126 : decode cX0_digest 126 = .ok (.i2l, 1) := dk_133 (dk_at dksX0_digest_5 12 rfl rfl)
theorem dX0_digest_127 : decode cX0_digest 127 = .ok (.invokevirtual 345, 3) := dk_182 1 89 (dk_at dksX0_digest_5 13 rfl rfl)
theorem dX0_digest_130 : decode cX0_digest 130 = .ok (.iconst 0, 1) := dk_3 (dk_at dksX0_digest_5 16 rfl rfl)
theorem dX0_digest_131 : decode cX0_digest 131 = .ok (.istore_n 3, 1) := dk_62 (dk_at dksX0_digest_5 17 rfl rfl)
theorem dX0_digest_132 : decode cX0_digest 132 = .ok (.aload_n 2, 1) := dk_44 (dk_at dksX0_digest_5 18 rfl rfl)
theorem dX0_digest_133 : decode cX0_digest 133 = .ok (.ifnull 23, 3) := dk_198 0 23 (dk_at dksX0_digest_5 19 rfl rfl)
theorem dX0_digest_136 : decode cX0_digest 136 = .ok (.iload_n 3, 1) := dk_29 (dk_at dksX0_digest_5 22 rfl rfl)
theorem dX0_digest_137 : decode cX0_digest 137 = .ok (.aload_n 2, 1) := dk_44 (dk_at dksX0_digest_5 23 rfl rfl)
theorem dX0_digest_138 : decode cX0_digest 138 = .ok (.arraylength, 1) := dk_190 (dk_at dksX0_digest_6 0 rfl rfl)
theorem dX0_digest_139 : decode cX0_digest 139 = .ok (.if_icmp .ge 17, 3) := dk_162 0 17 (dk_at dksX0_digest_6 1 rfl rfl)
theorem dX0_digest_142 : decode cX0_digest 142 = .ok (.aload_n 0, 1) := dk_42 (dk_at dksX0_digest_6 4 rfl rfl)
theorem dX0_digest_143 : decode cX0_digest 143 = .ok (.aload_n 2, 1) := dk_44 (dk_at dksX0_digest_6 5 rfl rfl)
theorem dX0_digest_144 : decode cX0_digest 144 = .ok (.iload_n 3, 1) := dk_29 (dk_at dksX0_digest_6 6 rfl rfl)
theorem dX0_digest_145 : decode cX0_digest 145 = .ok (.baload, 1) := dk_51 (dk_at dksX0_digest_6 7 rfl rfl)
theorem dX0_digest_146 : decode cX0_digest 146 = .ok (.i2l, 1) := dk_133 (dk_at dksX0_digest_6 8 rfl rfl)
theorem dX0_digest_147 : decode cX0_digest 147 = .ok (.invokevirtual 345, 3) := dk_182 1 89 (dk_at dksX0_digest_6 9 rfl rfl)
theorem dX0_digest_150 : decode cX0_digest 150 = .ok (.iinc 3 1, 3) := dk_132 3 1 (dk_at dksX0_digest_6 12 rfl rfl)
theorem dX0_digest_153 : decode cX0_digest 153 = .ok (.goto (-21), 3) := dk_167 255 235 (dk_at dksX0_digest_6 15 rfl rfl)
theorem dX0_digest_156 : decode cX0_digest 156 = .ok (.iinc 1 1, 3) := dk_132 1 1 (dk_at dksX0_digest_6 18 rfl rfl)
theorem dX0_digest_159 : decode cX0_digest 159 = .ok (.goto (-58), 3) := dk_167 255 198 (dk_at dksX0_digest_6 21 rfl rfl)
theorem dX0_digest_162 : decode cX0_digest 162 = .ok (.aload_n 0, 1) := dk_42 (dk_at dksX0_digest_7 0 rfl rfl)
theorem dX0_digest_163 : decode cX0_digest 163 = .ok (.getfield 342, 3) := dk_180 1 86 (dk_at dksX0_digest_7 1 rfl rfl)
theorem dX0_digest_166 : decode cX0_digest 166 = .ok (.lreturn, 1) := dk_173 (dk_at dksX0_digest_7 4 rfl rfl)
abbrev cX0_add : ByteArray := prog_1_method_88_code
def yX0_add : MethodName := ⟨RX0, "add", "(J)V"⟩
def dkwX0_add_0 : List UInt8 := [42, 20, 1, 84, 42, 180, 1, 86, 105, 31, 97, 181, 1, 86, 177]
abbrev dktX0_add_0 : List UInt8 := dkwX0_add_0 ++ []
theorem dksX0_add_0 : cX0_add.data.toList.drop 0 = dktX0_add_0 := by decide +kernel
theorem dX0_add_0 : decode cX0_add 0 = .ok (.aload_n 0, 1) := dk_42 (dk_at dksX0_add_0 0 rfl rfl)
theorem dX0_add_1 : decode cX0_add 1 = .ok (.ldc2_w 340, 3) := dk_20 1 84 (dk_at dksX0_add_0 1 rfl rfl)
theorem dX0_add_4 : decode cX0_add 4 = .ok (.aload_n 0, 1) := dk_42 (dk_at dksX0_add_0 4 rfl rfl)
theorem dX0_add_5 : decode cX0_add 5 = .ok (.getfield 342, 3) := dk_180 1 86 (dk_at dksX0_add_0 5 rfl rfl)
theorem dX0_add_8 : decode cX0_add 8 = .ok (.lmul, 1) := dk_105 (dk_at dksX0_add_0 8 rfl rfl)
theorem dX0_add_9 : decode cX0_add 9 = .ok (.lload_n 1, 1) := dk_31 (dk_at dksX0_add_0 9 rfl rfl)
theorem dX0_add_10 : decode cX0_add 10 = .ok (.ladd, 1) := dk_97 (dk_at dksX0_add_0 10 rfl rfl)
theorem dX0_add_11 : decode cX0_add 11 = .ok (.putfield 342, 3) := dk_181 1 86 (dk_at dksX0_add_0 11 rfl rfl)
theorem dX0_add_14 : decode cX0_add 14 = .ok (.return_, 1) := dk_177 (dk_at dksX0_add_0 14 rfl rfl)
abbrev cX0_addRiver : ByteArray := prog_1_method_89_code
def yX0_addRiver : MethodName := ⟨RX0, "addRiver", "()V"⟩
def dkwX0_addRiver_3 : List UInt8 := [180, 0, 50, 27, 50, 3, 46, 133, 182, 1, 89, 132, 1, 1, 167, 255, 216, 177]
abbrev dktX0_addRiver_3 : List UInt8 := dkwX0_addRiver_3 ++ []
def dkwX0_addRiver_2 : List UInt8 := [180, 0, 50, 190, 162, 0, 37, 42, 42, 180, 0, 50, 27, 50, 199, 0, 9, 20, 1, 93, 167, 0, 12, 42]
abbrev dktX0_addRiver_2 : List UInt8 := dkwX0_addRiver_2 ++ dktX0_addRiver_3
def dkwX0_addRiver_1 : List UInt8 := [182, 0, 211, 133, 182, 1, 89, 132, 2, 1, 167, 255, 236, 132, 1, 1, 167, 255, 220, 3, 60, 27, 42]
abbrev dktX0_addRiver_1 : List UInt8 := dkwX0_addRiver_1 ++ dktX0_addRiver_2
def dkwX0_addRiver_0 : List UInt8 := [3, 60, 27, 42, 180, 0, 116, 162, 0, 34, 3, 61, 28, 16, 6, 162, 0, 20, 42, 42, 27, 28]
abbrev dktX0_addRiver_0 : List UInt8 := dkwX0_addRiver_0 ++ dktX0_addRiver_1
theorem dksX0_addRiver_0 : cX0_addRiver.data.toList.drop 0 = dktX0_addRiver_0 := by decide +kernel
theorem dksX0_addRiver_1 : cX0_addRiver.data.toList.drop 22 = dktX0_addRiver_1 := dk_seg dksX0_addRiver_0 22 rfl rfl
theorem dksX0_addRiver_2 : cX0_addRiver.data.toList.drop 45 = dktX0_addRiver_2 := dk_seg dksX0_addRiver_1 23 rfl rfl
theorem dksX0_addRiver_3 : cX0_addRiver.data.toList.drop 69 = dktX0_addRiver_3 := dk_seg dksX0_addRiver_2 24 rfl rfl
theorem dX0_addRiver_0 : decode cX0_addRiver 0 = .ok (.iconst 0, 1) := dk_3 (dk_at dksX0_addRiver_0 0 rfl rfl)
theorem dX0_addRiver_1 : decode cX0_addRiver 1 = .ok (.istore_n 1, 1) := dk_60 (dk_at dksX0_addRiver_0 1 rfl rfl)
theorem dX0_addRiver_2 : decode cX0_addRiver 2 = .ok (.iload_n 1, 1) := dk_27 (dk_at dksX0_addRiver_0 2 rfl rfl)
theorem dX0_addRiver_3 : decode cX0_addRiver 3 = .ok (.aload_n 0, 1) := dk_42 (dk_at dksX0_addRiver_0 3 rfl rfl)
theorem dX0_addRiver_4 : decode cX0_addRiver 4 = .ok (.getfield 116, 3) := dk_180 0 116 (dk_at dksX0_addRiver_0 4 rfl rfl)
theorem dX0_addRiver_7 : decode cX0_addRiver 7 = .ok (.if_icmp .ge 34, 3) := dk_162 0 34 (dk_at dksX0_addRiver_0 7 rfl rfl)
theorem dX0_addRiver_10 : decode cX0_addRiver 10 = .ok (.iconst 0, 1) := dk_3 (dk_at dksX0_addRiver_0 10 rfl rfl)
theorem dX0_addRiver_11 : decode cX0_addRiver 11 = .ok (.istore_n 2, 1) := dk_61 (dk_at dksX0_addRiver_0 11 rfl rfl)
theorem dX0_addRiver_12 : decode cX0_addRiver 12 = .ok (.iload_n 2, 1) := dk_28 (dk_at dksX0_addRiver_0 12 rfl rfl)
theorem dX0_addRiver_13 : decode cX0_addRiver 13 = .ok (.bipush 6, 2) := dk_16 6 (dk_at dksX0_addRiver_0 13 rfl rfl)
theorem dX0_addRiver_15 : decode cX0_addRiver 15 = .ok (.if_icmp .ge 20, 3) := dk_162 0 20 (dk_at dksX0_addRiver_0 15 rfl rfl)
theorem dX0_addRiver_18 : decode cX0_addRiver 18 = .ok (.aload_n 0, 1) := dk_42 (dk_at dksX0_addRiver_0 18 rfl rfl)
theorem dX0_addRiver_19 : decode cX0_addRiver 19 = .ok (.aload_n 0, 1) := dk_42 (dk_at dksX0_addRiver_0 19 rfl rfl)
theorem dX0_addRiver_20 : decode cX0_addRiver 20 = .ok (.iload_n 1, 1) := dk_27 (dk_at dksX0_addRiver_0 20 rfl rfl)
theorem dX0_addRiver_21 : decode cX0_addRiver 21 = .ok (.iload_n 2, 1) := dk_28 (dk_at dksX0_addRiver_0 21 rfl rfl)
theorem dX0_addRiver_22 : decode cX0_addRiver 22 = .ok (.invokevirtual 211, 3) := dk_182 0 211 (dk_at dksX0_addRiver_1 0 rfl rfl)
theorem dX0_addRiver_25 : decode cX0_addRiver 25 = .ok (.i2l, 1) := dk_133 (dk_at dksX0_addRiver_1 3 rfl rfl)
theorem dX0_addRiver_26 : decode cX0_addRiver 26 = .ok (.invokevirtual 345, 3) := dk_182 1 89 (dk_at dksX0_addRiver_1 4 rfl rfl)
theorem dX0_addRiver_29 : decode cX0_addRiver 29 = .ok (.iinc 2 1, 3) := dk_132 2 1 (dk_at dksX0_addRiver_1 7 rfl rfl)
theorem dX0_addRiver_32 : decode cX0_addRiver 32 = .ok (.goto (-20), 3) := dk_167 255 236 (dk_at dksX0_addRiver_1 10 rfl rfl)
theorem dX0_addRiver_35 : decode cX0_addRiver 35 = .ok (.iinc 1 1, 3) := dk_132 1 1 (dk_at dksX0_addRiver_1 13 rfl rfl)
theorem dX0_addRiver_38 : decode cX0_addRiver 38 = .ok (.goto (-36), 3) := dk_167 255 220 (dk_at dksX0_addRiver_1 16 rfl rfl)
theorem dX0_addRiver_41 : decode cX0_addRiver 41 = .ok (.iconst 0, 1) := dk_3 (dk_at dksX0_addRiver_1 19 rfl rfl)
theorem dX0_addRiver_42 : decode cX0_addRiver 42 = .ok (.istore_n 1, 1) := dk_60 (dk_at dksX0_addRiver_1 20 rfl rfl)
theorem dX0_addRiver_43 : decode cX0_addRiver 43 = .ok (.iload_n 1, 1) := dk_27 (dk_at dksX0_addRiver_1 21 rfl rfl)
theorem dX0_addRiver_44 : decode cX0_addRiver 44 = .ok (.aload_n 0, 1) := dk_42 (dk_at dksX0_addRiver_1 22 rfl rfl)
theorem dX0_addRiver_45 : decode cX0_addRiver 45 = .ok (.getfield 50, 3) := dk_180 0 50 (dk_at dksX0_addRiver_2 0 rfl rfl)
theorem dX0_addRiver_48 : decode cX0_addRiver 48 = .ok (.arraylength, 1) := dk_190 (dk_at dksX0_addRiver_2 3 rfl rfl)
theorem dX0_addRiver_49 : decode cX0_addRiver 49 = .ok (.if_icmp .ge 37, 3) := dk_162 0 37 (dk_at dksX0_addRiver_2 4 rfl rfl)
theorem dX0_addRiver_52 : decode cX0_addRiver 52 = .ok (.aload_n 0, 1) := dk_42 (dk_at dksX0_addRiver_2 7 rfl rfl)
theorem dX0_addRiver_53 : decode cX0_addRiver 53 = .ok (.aload_n 0, 1) := dk_42 (dk_at dksX0_addRiver_2 8 rfl rfl)
theorem dX0_addRiver_54 : decode cX0_addRiver 54 = .ok (.getfield 50, 3) := dk_180 0 50 (dk_at dksX0_addRiver_2 9 rfl rfl)
theorem dX0_addRiver_57 : decode cX0_addRiver 57 = .ok (.iload_n 1, 1) := dk_27 (dk_at dksX0_addRiver_2 12 rfl rfl)
theorem dX0_addRiver_58 : decode cX0_addRiver 58 = .ok (.aaload, 1) := dk_50 (dk_at dksX0_addRiver_2 13 rfl rfl)
theorem dX0_addRiver_59 : decode cX0_addRiver 59 = .ok (.ifnonnull 9, 3) := dk_199 0 9 (dk_at dksX0_addRiver_2 14 rfl rfl)
theorem dX0_addRiver_62 : decode cX0_addRiver 62 = .ok (.ldc2_w 349, 3) := dk_20 1 93 (dk_at dksX0_addRiver_2 17 rfl rfl)
theorem dX0_addRiver_65 : decode cX0_addRiver 65 = .ok (.goto 12, 3) := dk_167 0 12 (dk_at dksX0_addRiver_2 20 rfl rfl)
theorem dX0_addRiver_68 : decode cX0_addRiver 68 = .ok (.aload_n 0, 1) := dk_42 (dk_at dksX0_addRiver_2 23 rfl rfl)
theorem dX0_addRiver_69 : decode cX0_addRiver 69 = .ok (.getfield 50, 3) := dk_180 0 50 (dk_at dksX0_addRiver_3 0 rfl rfl)
theorem dX0_addRiver_72 : decode cX0_addRiver 72 = .ok (.iload_n 1, 1) := dk_27 (dk_at dksX0_addRiver_3 3 rfl rfl)
theorem dX0_addRiver_73 : decode cX0_addRiver 73 = .ok (.aaload, 1) := dk_50 (dk_at dksX0_addRiver_3 4 rfl rfl)
theorem dX0_addRiver_74 : decode cX0_addRiver 74 = .ok (.iconst 0, 1) := dk_3 (dk_at dksX0_addRiver_3 5 rfl rfl)
theorem dX0_addRiver_75 : decode cX0_addRiver 75 = .ok (.iaload, 1) := dk_46 (dk_at dksX0_addRiver_3 6 rfl rfl)
theorem dX0_addRiver_76 : decode cX0_addRiver 76 = .ok (.i2l, 1) := dk_133 (dk_at dksX0_addRiver_3 7 rfl rfl)
theorem dX0_addRiver_77 : decode cX0_addRiver 77 = .ok (.invokevirtual 345, 3) := dk_182 1 89 (dk_at dksX0_addRiver_3 8 rfl rfl)
theorem dX0_addRiver_80 : decode cX0_addRiver 80 = .ok (.iinc 1 1, 3) := dk_132 1 1 (dk_at dksX0_addRiver_3 11 rfl rfl)
theorem dX0_addRiver_83 : decode cX0_addRiver 83 = .ok (.goto (-40), 3) := dk_167 255 216 (dk_at dksX0_addRiver_3 14 rfl rfl)
theorem dX0_addRiver_86 : decode cX0_addRiver 86 = .ok (.return_, 1) := dk_177 (dk_at dksX0_addRiver_3 17 rfl rfl)
theorem q87 : (Jvm.Cond.initialized "DareFord") ∈ lw_all := lw_g (lw_at lw_m1 1 rfl) rfl
theorem q108 : (Jvm.Cond.instanceMethod ({ cls := "DareFord", name := "asked", desc := "()I" } : Jvm.MethodName)) ∈ lw_all := lw_g (lw_at lw_m1 22 rfl) rfl
theorem q109 : (Jvm.Cond.selects "DareFord" ({ cls := "DareFord", name := "asked", desc := "()I" } : Jvm.MethodName) ({ cls := "DareFord", name := "asked", desc := "()I" } : Jvm.MethodName)) ∈ lw_all := lw_g (lw_at lw_m1 23 rfl) rfl
theorem q110 : (Jvm.Cond.code ({ cls := "DareFord", name := "asked", desc := "()I" } : Jvm.MethodName) prog_1_method_5_code (1 : Nat) (Option.some Jvm.ClassFile.FieldType.int)) ∈ lw_all := lw_g (lw_at lw_m1 24 rfl) rfl
theorem q112 : (Jvm.Cond.instantiable "DareFord" (25 : Nat)) ∈ lw_all := lw_g (lw_at lw_m1 26 rfl) rfl
theorem q114 : (Jvm.Cond.instanceMethod ({ cls := "DareFord", name := "<init>", desc := "()V" } : Jvm.MethodName)) ∈ lw_all := lw_g (lw_at lw_m1 28 rfl) rfl
theorem q115 : (Jvm.Cond.code ({ cls := "DareFord", name := "<init>", desc := "()V" } : Jvm.MethodName) prog_1_method_6_code (1 : Nat) (Option.none : Option Jvm.ClassFile.FieldType)) ∈ lw_all := lw_g (lw_at lw_m1 29 rfl) rfl
theorem q116 : (Jvm.Cond.methodLink "DareFord" (14 : Nat) ({ cls := "java/lang/Object", name := "<init>", desc := "()V" } : Jvm.MethodName)) ∈ lw_all := lw_g (lw_at lw_m1 30 rfl) rfl
theorem q119 : (Jvm.Cond.classLink "DareFord" (24 : Nat) "[I") ∈ lw_all := lw_g (lw_at lw_m1 33 rfl) rfl
theorem q121 : (Jvm.Cond.classLink "DareFord" (29 : Nat) "[B") ∈ lw_all := lw_g (lw_at lw_m1 35 rfl) rfl
theorem q123 : (Jvm.Cond.classLink "DareFord" (35 : Nat) "DareFord$Person") ∈ lw_all := lw_g (lw_at lw_m1 37 rfl) rfl
theorem q125 : (Jvm.Cond.fieldLink "DareFord" (3 : Nat) "DareFord" "latest" "I") ∈ lw_all := lw_g (lw_at lw_m1 39 rfl) rfl
theorem q126 : (Jvm.Cond.fieldLink "DareFord" (7 : Nat) "DareFord" "came" "[I") ∈ lw_all := lw_g (lw_at lw_m1 40 rfl) rfl
theorem q127 : (Jvm.Cond.fieldLink "DareFord" (11 : Nat) "DareFord" "asked" "I") ∈ lw_all := lw_g (lw_at lw_m1 41 rfl) rfl
theorem q128 : (Jvm.Cond.fieldLink "DareFord" (62 : Nat) "DareFord" "upper" "J") ∈ lw_all := lw_g (lw_at lw_m1 42 rfl) rfl
theorem q129 : (Jvm.Cond.fieldLink "DareFord" (20 : Nat) "DareFord" "lower" "J") ∈ lw_all := lw_g (lw_at lw_m1 43 rfl) rfl
theorem q130 : (Jvm.Cond.fieldLink "DareFord" (25 : Nat) "DareFord" "rows" "[[I") ∈ lw_all := lw_g (lw_at lw_m1 44 rfl) rfl
theorem q131 : (Jvm.Cond.fieldLink "DareFord" (31 : Nat) "DareFord" "texts" "[[B") ∈ lw_all := lw_g (lw_at lw_m1 45 rfl) rfl
theorem q133 : (Jvm.Cond.fieldLink "DareFord" (116 : Nat) "DareFord" "personMany" "I") ∈ lw_all := lw_g (lw_at lw_m1 47 rfl) rfl
theorem q134 : (Jvm.Cond.fieldLink "DareFord" (37 : Nat) "DareFord" "people" "[LDareFord$Person;") ∈ lw_all := lw_g (lw_at lw_m1 48 rfl) rfl
theorem q139 : (Jvm.Cond.fieldLink "DareFord" (41 : Nat) "DareFord" "at" "[I") ∈ lw_all := lw_g (lw_at lw_m1 53 rfl) rfl
theorem q140 : (Jvm.Cond.fieldLink "DareFord" (162 : Nat) "DareFord" "readAt" "I") ∈ lw_all := lw_g (lw_at lw_m1 54 rfl) rfl
theorem q141 : (Jvm.Cond.fieldLink "DareFord" (182 : Nat) "DareFord" "readMany" "I") ∈ lw_all := lw_g (lw_at lw_m1 55 rfl) rfl
theorem q142 : (Jvm.Cond.fieldLink "DareFord" (176 : Nat) "DareFord" "readFord" "I") ∈ lw_all := lw_g (lw_at lw_m1 56 rfl) rfl
theorem q143 : (Jvm.Cond.fieldLink "DareFord" (44 : Nat) "DareFord" "readOnes" "[I") ∈ lw_all := lw_g (lw_at lw_m1 57 rfl) rfl
theorem q144 : (Jvm.Cond.fieldLink "DareFord" (202 : Nat) "DareFord" "deedMany" "I") ∈ lw_all := lw_g (lw_at lw_m1 58 rfl) rfl
theorem q145 : (Jvm.Cond.fieldLink "DareFord" (47 : Nat) "DareFord" "log" "[I") ∈ lw_all := lw_g (lw_at lw_m1 59 rfl) rfl
theorem q146 : (Jvm.Cond.fieldLink "DareFord" (50 : Nat) "DareFord" "kept" "[[I") ∈ lw_all := lw_g (lw_at lw_m1 60 rfl) rfl
theorem q147 : (Jvm.Cond.fieldLink "DareFord" (53 : Nat) "DareFord" "changes" "[I") ∈ lw_all := lw_g (lw_at lw_m1 61 rfl) rfl
theorem q148 : (Jvm.Cond.fieldLink "DareFord" (56 : Nat) "DareFord" "bestChanges" "[I") ∈ lw_all := lw_g (lw_at lw_m1 62 rfl) rfl
theorem q149 : (Jvm.Cond.fieldLink "DareFord" (59 : Nat) "DareFord" "counts" "[I") ∈ lw_all := lw_g (lw_at lw_m1 63 rfl) rfl
theorem q150 : (Jvm.Cond.fieldLink "DareFord" (277 : Nat) "DareFord" "setMany" "I") ∈ lw_all := lw_g (lw_at lw_m1 64 rfl) rfl
theorem q151 : (Jvm.Cond.fieldLink "DareFord" (280 : Nat) "DareFord" "setFirst" "I") ∈ lw_all := lw_g (lw_at lw_m1 65 rfl) rfl
theorem q152 : (Jvm.Cond.fieldLink "DareFord" (283 : Nat) "DareFord" "setAll" "I") ∈ lw_all := lw_g (lw_at lw_m1 66 rfl) rfl
theorem q153 : (Jvm.Cond.fieldLink "DareFord" (286 : Nat) "DareFord" "setAny" "I") ∈ lw_all := lw_g (lw_at lw_m1 67 rfl) rfl
theorem q154 : (Jvm.Cond.fieldLink "DareFord" (342 : Nat) "DareFord" "h" "J") ∈ lw_all := lw_g (lw_at lw_m1 68 rfl) rfl
theorem q155 : (Jvm.Cond.lays "DareFord" "DareFord" "latest" "I") ∈ lw_all := lw_g (lw_at lw_m1 69 rfl) rfl
theorem q156 : (Jvm.Cond.soleField "DareFord" "latest") ∈ lw_all := lw_g (lw_at lw_m1 70 rfl) rfl
theorem q157 : (Jvm.Cond.laysFinal "DareFord" "DareFord" "came" "[I") ∈ lw_all := lw_g (lw_at lw_m1 71 rfl) rfl
theorem q158 : (Jvm.Cond.soleField "DareFord" "came") ∈ lw_all := lw_g (lw_at lw_m1 72 rfl) rfl
theorem q159 : (Jvm.Cond.lays "DareFord" "DareFord" "asked" "I") ∈ lw_all := lw_g (lw_at lw_m1 73 rfl) rfl
theorem q160 : (Jvm.Cond.soleField "DareFord" "asked") ∈ lw_all := lw_g (lw_at lw_m1 74 rfl) rfl
theorem q161 : (Jvm.Cond.lays "DareFord" "DareFord" "upper" "J") ∈ lw_all := lw_g (lw_at lw_m1 75 rfl) rfl
theorem q162 : (Jvm.Cond.soleField "DareFord" "upper") ∈ lw_all := lw_g (lw_at lw_m1 76 rfl) rfl
theorem q163 : (Jvm.Cond.lays "DareFord" "DareFord" "lower" "J") ∈ lw_all := lw_g (lw_at lw_m1 77 rfl) rfl
theorem q164 : (Jvm.Cond.soleField "DareFord" "lower") ∈ lw_all := lw_g (lw_at lw_m1 78 rfl) rfl
theorem q165 : (Jvm.Cond.laysFinal "DareFord" "DareFord" "rows" "[[I") ∈ lw_all := lw_g (lw_at lw_m1 79 rfl) rfl
theorem q166 : (Jvm.Cond.soleField "DareFord" "rows") ∈ lw_all := lw_g (lw_at lw_m1 80 rfl) rfl
theorem q167 : (Jvm.Cond.laysFinal "DareFord" "DareFord" "texts" "[[B") ∈ lw_all := lw_g (lw_at lw_m1 81 rfl) rfl
theorem q168 : (Jvm.Cond.soleField "DareFord" "texts") ∈ lw_all := lw_g (lw_at lw_m1 82 rfl) rfl
theorem q169 : (Jvm.Cond.lays "DareFord" "DareFord" "personMany" "I") ∈ lw_all := lw_g (lw_at lw_m1 83 rfl) rfl
theorem q170 : (Jvm.Cond.soleField "DareFord" "personMany") ∈ lw_all := lw_g (lw_at lw_m1 84 rfl) rfl
theorem q171 : (Jvm.Cond.laysFinal "DareFord" "DareFord" "people" "[LDareFord$Person;") ∈ lw_all := lw_g (lw_at lw_m1 85 rfl) rfl
theorem q172 : (Jvm.Cond.soleField "DareFord" "people") ∈ lw_all := lw_g (lw_at lw_m1 86 rfl) rfl
theorem q173 : (Jvm.Cond.laysFinal "DareFord" "DareFord" "at" "[I") ∈ lw_all := lw_g (lw_at lw_m1 87 rfl) rfl
theorem q174 : (Jvm.Cond.soleField "DareFord" "at") ∈ lw_all := lw_g (lw_at lw_m1 88 rfl) rfl
theorem q175 : (Jvm.Cond.lays "DareFord" "DareFord" "readAt" "I") ∈ lw_all := lw_g (lw_at lw_m1 89 rfl) rfl
theorem q176 : (Jvm.Cond.soleField "DareFord" "readAt") ∈ lw_all := lw_g (lw_at lw_m1 90 rfl) rfl
theorem q177 : (Jvm.Cond.lays "DareFord" "DareFord" "readMany" "I") ∈ lw_all := lw_g (lw_at lw_m1 91 rfl) rfl
theorem q178 : (Jvm.Cond.soleField "DareFord" "readMany") ∈ lw_all := lw_g (lw_at lw_m1 92 rfl) rfl
theorem q179 : (Jvm.Cond.lays "DareFord" "DareFord" "readFord" "I") ∈ lw_all := lw_g (lw_at lw_m1 93 rfl) rfl
theorem q180 : (Jvm.Cond.soleField "DareFord" "readFord") ∈ lw_all := lw_g (lw_at lw_m1 94 rfl) rfl
theorem q181 : (Jvm.Cond.laysFinal "DareFord" "DareFord" "readOnes" "[I") ∈ lw_all := lw_g (lw_at lw_m1 95 rfl) rfl
theorem q182 : (Jvm.Cond.soleField "DareFord" "readOnes") ∈ lw_all := lw_g (lw_at lw_m1 96 rfl) rfl
theorem q183 : (Jvm.Cond.lays "DareFord" "DareFord" "deedMany" "I") ∈ lw_all := lw_g (lw_at lw_m1 97 rfl) rfl
theorem q184 : (Jvm.Cond.soleField "DareFord" "deedMany") ∈ lw_all := lw_g (lw_at lw_m1 98 rfl) rfl
theorem q185 : (Jvm.Cond.laysFinal "DareFord" "DareFord" "log" "[I") ∈ lw_all := lw_g (lw_at lw_m1 99 rfl) rfl
theorem q186 : (Jvm.Cond.soleField "DareFord" "log") ∈ lw_all := lw_g (lw_at lw_m1 100 rfl) rfl
theorem q187 : (Jvm.Cond.laysFinal "DareFord" "DareFord" "kept" "[[I") ∈ lw_all := lw_g (lw_at lw_m1 101 rfl) rfl
theorem q188 : (Jvm.Cond.soleField "DareFord" "kept") ∈ lw_all := lw_g (lw_at lw_m1 102 rfl) rfl
theorem q189 : (Jvm.Cond.laysFinal "DareFord" "DareFord" "changes" "[I") ∈ lw_all := lw_g (lw_at lw_m1 103 rfl) rfl
theorem q190 : (Jvm.Cond.soleField "DareFord" "changes") ∈ lw_all := lw_g (lw_at lw_m1 104 rfl) rfl
theorem q191 : (Jvm.Cond.laysFinal "DareFord" "DareFord" "bestChanges" "[I") ∈ lw_all := lw_g (lw_at lw_m1 105 rfl) rfl
theorem q192 : (Jvm.Cond.soleField "DareFord" "bestChanges") ∈ lw_all := lw_g (lw_at lw_m1 106 rfl) rfl
theorem q193 : (Jvm.Cond.laysFinal "DareFord" "DareFord" "counts" "[I") ∈ lw_all := lw_g (lw_at lw_m1 107 rfl) rfl
theorem q194 : (Jvm.Cond.soleField "DareFord" "counts") ∈ lw_all := lw_g (lw_at lw_m1 108 rfl) rfl
theorem q195 : (Jvm.Cond.lays "DareFord" "DareFord" "setMany" "I") ∈ lw_all := lw_g (lw_at lw_m1 109 rfl) rfl
theorem q196 : (Jvm.Cond.soleField "DareFord" "setMany") ∈ lw_all := lw_g (lw_at lw_m1 110 rfl) rfl
theorem q197 : (Jvm.Cond.lays "DareFord" "DareFord" "setFirst" "I") ∈ lw_all := lw_g (lw_at lw_m1 111 rfl) rfl
theorem q198 : (Jvm.Cond.soleField "DareFord" "setFirst") ∈ lw_all := lw_g (lw_at lw_m1 112 rfl) rfl
theorem q199 : (Jvm.Cond.lays "DareFord" "DareFord" "setAll" "I") ∈ lw_all := lw_g (lw_at lw_m1 113 rfl) rfl
theorem q200 : (Jvm.Cond.soleField "DareFord" "setAll") ∈ lw_all := lw_g (lw_at lw_m1 114 rfl) rfl
theorem q201 : (Jvm.Cond.lays "DareFord" "DareFord" "setAny" "I") ∈ lw_all := lw_g (lw_at lw_m1 115 rfl) rfl
theorem q202 : (Jvm.Cond.soleField "DareFord" "setAny") ∈ lw_all := lw_g (lw_at lw_m1 116 rfl) rfl
theorem q203 : (Jvm.Cond.lays "DareFord" "DareFord" "h" "J") ∈ lw_all := lw_g (lw_at lw_m1 117 rfl) rfl
theorem q204 : (Jvm.Cond.soleField "DareFord" "h") ∈ lw_all := lw_g (lw_at lw_m1 118 rfl) rfl
theorem q205 : (Jvm.Cond.superclass "DareFord" "java/lang/Object") ∈ lw_all := lw_g (lw_at lw_m1 119 rfl) rfl
theorem q208 : (Jvm.Cond.instanceMethod ({ cls := "DareFord", name := "upper", desc := "()J" } : Jvm.MethodName)) ∈ lw_all := lw_g (lw_at lw_m1 122 rfl) rfl
theorem q209 : (Jvm.Cond.selects "DareFord" ({ cls := "DareFord", name := "upper", desc := "()J" } : Jvm.MethodName) ({ cls := "DareFord", name := "upper", desc := "()J" } : Jvm.MethodName)) ∈ lw_all := lw_g (lw_at lw_m1 123 rfl) rfl
theorem q210 : (Jvm.Cond.code ({ cls := "DareFord", name := "upper", desc := "()J" } : Jvm.MethodName) prog_1_method_8_code (1 : Nat) (Option.some Jvm.ClassFile.FieldType.long)) ∈ lw_all := lw_g (lw_at lw_m1 124 rfl) rfl
theorem q212 : (Jvm.Cond.instanceMethod ({ cls := "DareFord", name := "lower", desc := "()J" } : Jvm.MethodName)) ∈ lw_all := lw_g (lw_at lw_m1 126 rfl) rfl
theorem q213 : (Jvm.Cond.selects "DareFord" ({ cls := "DareFord", name := "lower", desc := "()J" } : Jvm.MethodName) ({ cls := "DareFord", name := "lower", desc := "()J" } : Jvm.MethodName)) ∈ lw_all := lw_g (lw_at lw_m1 127 rfl) rfl
theorem q214 : (Jvm.Cond.code ({ cls := "DareFord", name := "lower", desc := "()J" } : Jvm.MethodName) prog_1_method_9_code (1 : Nat) (Option.some Jvm.ClassFile.FieldType.long)) ∈ lw_all := lw_g (lw_at lw_m1 128 rfl) rfl
theorem q216 : (Jvm.Cond.instanceMethod ({ cls := "DareFord", name := "row", desc := "(II)I" } : Jvm.MethodName)) ∈ lw_all := lw_g (lw_at lw_m1 130 rfl) rfl
theorem q217 : (Jvm.Cond.selects "DareFord" ({ cls := "DareFord", name := "row", desc := "(II)I" } : Jvm.MethodName) ({ cls := "DareFord", name := "row", desc := "(II)I" } : Jvm.MethodName)) ∈ lw_all := lw_g (lw_at lw_m1 131 rfl) rfl
theorem q218 : (Jvm.Cond.codeWith ({ cls := "DareFord", name := "row", desc := "(II)I" } : Jvm.MethodName) prog_1_method_11_code (4 : Nat) (Option.some Jvm.ClassFile.FieldType.int) [((15 : Nat), (25 : Nat), (26 : Nat), (73 : Nat))]) ∈ lw_all := lw_g (lw_at lw_m1 132 rfl) rfl
theorem q219 : (Jvm.Cond.classLink "DareFord" (73 : Nat) "java/lang/NegativeArraySizeException") ∈ lw_all := lw_g (lw_at lw_m1 133 rfl) rfl
theorem q305 : (Jvm.Cond.methodLink "DareFord" (69 : Nat) ({ cls := "DareFord", name := "isRow", desc := "(I)Z" } : Jvm.MethodName)) ∈ lw_all := lw_g (lw_at lw_m1 219 rfl) rfl
theorem q306 : (Jvm.Cond.static ({ cls := "DareFord", name := "isRow", desc := "(I)Z" } : Jvm.MethodName)) ∈ lw_all := lw_g (lw_at lw_m1 220 rfl) rfl
theorem q307 : (Jvm.Cond.code ({ cls := "DareFord", name := "isRow", desc := "(I)Z" } : Jvm.MethodName) prog_1_method_10_code (1 : Nat) (Option.some Jvm.ClassFile.FieldType.boolean)) ∈ lw_all := lw_g (lw_at lw_m1 221 rfl) rfl
theorem q308 : (Jvm.Cond.methodLink "DareFord" (65 : Nat) ({ cls := "DareFord", name := "in", desc := "(III)Z" } : Jvm.MethodName)) ∈ lw_all := lw_g (lw_at lw_m1 222 rfl) rfl
theorem q309 : (Jvm.Cond.static ({ cls := "DareFord", name := "in", desc := "(III)Z" } : Jvm.MethodName)) ∈ lw_all := lw_g (lw_at lw_m1 223 rfl) rfl
theorem q310 : (Jvm.Cond.code ({ cls := "DareFord", name := "in", desc := "(III)Z" } : Jvm.MethodName) prog_1_method_1_code (3 : Nat) (Option.some Jvm.ClassFile.FieldType.boolean)) ∈ lw_all := lw_g (lw_at lw_m1 224 rfl) rfl
theorem q311 : (Jvm.Cond.methodLink "DareFord" (75 : Nat) ({ cls := "DareFord", name := "found", desc := "(I)I" } : Jvm.MethodName)) ∈ lw_all := lw_g (lw_at lw_m1 225 rfl) rfl
theorem q312 : (Jvm.Cond.privateMethod ({ cls := "DareFord", name := "found", desc := "(I)I" } : Jvm.MethodName)) ∈ lw_tbl := lw_at lw_m1 226 rfl
theorem q313 : (Jvm.Cond.instanceMethod ({ cls := "DareFord", name := "found", desc := "(I)I" } : Jvm.MethodName)) ∈ lw_all := lw_g (lw_at lw_m1 227 rfl) rfl
theorem q314 : (Jvm.Cond.code ({ cls := "DareFord", name := "found", desc := "(I)I" } : Jvm.MethodName) prog_1_method_3_code (2 : Nat) (Option.some Jvm.ClassFile.FieldType.int)) ∈ lw_all := lw_g (lw_at lw_m1 228 rfl) rfl
theorem q316 : (Jvm.Cond.instanceMethod ({ cls := "DareFord", name := "lay", desc := "(III)I" } : Jvm.MethodName)) ∈ lw_all := lw_g (lw_at lw_m1 230 rfl) rfl
theorem q317 : (Jvm.Cond.selects "DareFord" ({ cls := "DareFord", name := "lay", desc := "(III)I" } : Jvm.MethodName) ({ cls := "DareFord", name := "lay", desc := "(III)I" } : Jvm.MethodName)) ∈ lw_all := lw_g (lw_at lw_m1 231 rfl) rfl
theorem q318 : (Jvm.Cond.codeWith ({ cls := "DareFord", name := "lay", desc := "(III)I" } : Jvm.MethodName) prog_1_method_12_code (5 : Nat) (Option.some Jvm.ClassFile.FieldType.int) [((9 : Nat), (35 : Nat), (36 : Nat), (83 : Nat)), ((9 : Nat), (35 : Nat), (44 : Nat), (85 : Nat))]) ∈ lw_all := lw_g (lw_at lw_m1 232 rfl) rfl
theorem q319 : (Jvm.Cond.classLink "DareFord" (83 : Nat) "java/lang/NullPointerException") ∈ lw_all := lw_g (lw_at lw_m1 233 rfl) rfl
theorem q344 : (Jvm.Cond.classLink "DareFord" (85 : Nat) "java/lang/IndexOutOfBoundsException") ∈ lw_all := lw_g (lw_at lw_m2 18 rfl) rfl
theorem q363 : (Jvm.Cond.methodLink "DareFord" (79 : Nat) ({ cls := "DareFord", name := "say", desc := "(II)I" } : Jvm.MethodName)) ∈ lw_all := lw_g (lw_at lw_m2 37 rfl) rfl
theorem q364 : (Jvm.Cond.privateMethod ({ cls := "DareFord", name := "say", desc := "(II)I" } : Jvm.MethodName)) ∈ lw_tbl := lw_at lw_m2 38 rfl
theorem q365 : (Jvm.Cond.instanceMethod ({ cls := "DareFord", name := "say", desc := "(II)I" } : Jvm.MethodName)) ∈ lw_all := lw_g (lw_at lw_m2 39 rfl) rfl
theorem q366 : (Jvm.Cond.code ({ cls := "DareFord", name := "say", desc := "(II)I" } : Jvm.MethodName) prog_1_method_4_code (3 : Nat) (Option.some Jvm.ClassFile.FieldType.int)) ∈ lw_all := lw_g (lw_at lw_m2 40 rfl) rfl
theorem q368 : (Jvm.Cond.instanceMethod ({ cls := "DareFord", name := "at", desc := "(II)I" } : Jvm.MethodName)) ∈ lw_all := lw_g (lw_at lw_m2 42 rfl) rfl
theorem q369 : (Jvm.Cond.selects "DareFord" ({ cls := "DareFord", name := "at", desc := "(II)I" } : Jvm.MethodName) ({ cls := "DareFord", name := "at", desc := "(II)I" } : Jvm.MethodName)) ∈ lw_all := lw_g (lw_at lw_m2 43 rfl) rfl
theorem q370 : (Jvm.Cond.codeWith ({ cls := "DareFord", name := "at", desc := "(II)I" } : Jvm.MethodName) prog_1_method_13_code (4 : Nat) (Option.some Jvm.ClassFile.FieldType.int) [((9 : Nat), (22 : Nat), (23 : Nat), (83 : Nat)), ((9 : Nat), (22 : Nat), (30 : Nat), (85 : Nat))]) ∈ lw_all := lw_g (lw_at lw_m2 44 rfl) rfl
theorem q372 : (Jvm.Cond.instanceMethod ({ cls := "DareFord", name := "tear", desc := "(I)I" } : Jvm.MethodName)) ∈ lw_all := lw_g (lw_at lw_m2 46 rfl) rfl
theorem q373 : (Jvm.Cond.selects "DareFord" ({ cls := "DareFord", name := "tear", desc := "(I)I" } : Jvm.MethodName) ({ cls := "DareFord", name := "tear", desc := "(I)I" } : Jvm.MethodName)) ∈ lw_all := lw_g (lw_at lw_m2 47 rfl) rfl
theorem q374 : (Jvm.Cond.code ({ cls := "DareFord", name := "tear", desc := "(I)I" } : Jvm.MethodName) prog_1_method_14_code (2 : Nat) (Option.some Jvm.ClassFile.FieldType.int)) ∈ lw_all := lw_g (lw_at lw_m2 48 rfl) rfl
theorem q376 : (Jvm.Cond.instanceMethod ({ cls := "DareFord", name := "copy", desc := "(IIIII)I" } : Jvm.MethodName)) ∈ lw_all := lw_g (lw_at lw_m2 50 rfl) rfl
theorem q377 : (Jvm.Cond.selects "DareFord" ({ cls := "DareFord", name := "copy", desc := "(IIIII)I" } : Jvm.MethodName) ({ cls := "DareFord", name := "copy", desc := "(IIIII)I" } : Jvm.MethodName)) ∈ lw_all := lw_g (lw_at lw_m2 51 rfl) rfl
theorem q378 : (Jvm.Cond.codeWith ({ cls := "DareFord", name := "copy", desc := "(IIIII)I" } : Jvm.MethodName) prog_1_method_15_code (7 : Nat) (Option.some Jvm.ClassFile.FieldType.int) [((27 : Nat), (48 : Nat), (49 : Nat), (83 : Nat)), ((27 : Nat), (48 : Nat), (57 : Nat), (85 : Nat))]) ∈ lw_all := lw_g (lw_at lw_m2 52 rfl) rfl
theorem q379 : (Jvm.Cond.methodLink "DareFord" (87 : Nat) ({ cls := "java/lang/System", name := "arraycopy", desc := "(Ljava/lang/Object;ILjava/lang/Object;II)V" } : Jvm.MethodName)) ∈ lw_all := lw_g (lw_at lw_m2 53 rfl) rfl
theorem q383 : (Jvm.Cond.instanceMethod ({ cls := "DareFord", name := "mean", desc := "(I)I" } : Jvm.MethodName)) ∈ lw_all := lw_g (lw_at lw_m2 57 rfl) rfl
theorem q384 : (Jvm.Cond.selects "DareFord" ({ cls := "DareFord", name := "mean", desc := "(I)I" } : Jvm.MethodName) ({ cls := "DareFord", name := "mean", desc := "(I)I" } : Jvm.MethodName)) ∈ lw_all := lw_g (lw_at lw_m2 58 rfl) rfl
theorem q385 : (Jvm.Cond.codeWith ({ cls := "DareFord", name := "mean", desc := "(I)I" } : Jvm.MethodName) prog_1_method_16_code (5 : Nat) (Option.some Jvm.ClassFile.FieldType.int) [((60 : Nat), (76 : Nat), (77 : Nat), (93 : Nat))]) ∈ lw_all := lw_g (lw_at lw_m2 59 rfl) rfl
theorem q386 : (Jvm.Cond.classLink "DareFord" (93 : Nat) "java/lang/ArithmeticException") ∈ lw_all := lw_g (lw_at lw_m2 60 rfl) rfl
theorem q401 : (Jvm.Cond.instanceMethod ({ cls := "DareFord", name := "text", desc := "(II)I" } : Jvm.MethodName)) ∈ lw_all := lw_g (lw_at lw_m2 75 rfl) rfl
theorem q402 : (Jvm.Cond.selects "DareFord" ({ cls := "DareFord", name := "text", desc := "(II)I" } : Jvm.MethodName) ({ cls := "DareFord", name := "text", desc := "(II)I" } : Jvm.MethodName)) ∈ lw_all := lw_g (lw_at lw_m2 76 rfl) rfl
theorem q403 : (Jvm.Cond.codeWith ({ cls := "DareFord", name := "text", desc := "(II)I" } : Jvm.MethodName) prog_1_method_18_code (5 : Nat) (Option.some Jvm.ClassFile.FieldType.int) [((15 : Nat), (48 : Nat), (49 : Nat), (73 : Nat))]) ∈ lw_all := lw_g (lw_at lw_m2 77 rfl) rfl
theorem q404 : (Jvm.Cond.methodLink "DareFord" (95 : Nat) ({ cls := "DareFord", name := "isText", desc := "(I)Z" } : Jvm.MethodName)) ∈ lw_all := lw_g (lw_at lw_m2 78 rfl) rfl
theorem q405 : (Jvm.Cond.static ({ cls := "DareFord", name := "isText", desc := "(I)Z" } : Jvm.MethodName)) ∈ lw_all := lw_g (lw_at lw_m2 79 rfl) rfl
theorem q406 : (Jvm.Cond.code ({ cls := "DareFord", name := "isText", desc := "(I)Z" } : Jvm.MethodName) prog_1_method_17_code (1 : Nat) (Option.some Jvm.ClassFile.FieldType.boolean)) ∈ lw_all := lw_g (lw_at lw_m2 80 rfl) rfl
theorem q408 : (Jvm.Cond.instanceMethod ({ cls := "DareFord", name := "put", desc := "(III)I" } : Jvm.MethodName)) ∈ lw_all := lw_g (lw_at lw_m2 82 rfl) rfl
theorem q409 : (Jvm.Cond.selects "DareFord" ({ cls := "DareFord", name := "put", desc := "(III)I" } : Jvm.MethodName) ({ cls := "DareFord", name := "put", desc := "(III)I" } : Jvm.MethodName)) ∈ lw_all := lw_g (lw_at lw_m2 83 rfl) rfl
theorem q410 : (Jvm.Cond.codeWith ({ cls := "DareFord", name := "put", desc := "(III)I" } : Jvm.MethodName) prog_1_method_19_code (5 : Nat) (Option.some Jvm.ClassFile.FieldType.int) [((9 : Nat), (35 : Nat), (36 : Nat), (83 : Nat)), ((9 : Nat), (35 : Nat), (44 : Nat), (85 : Nat))]) ∈ lw_all := lw_g (lw_at lw_m2 84 rfl) rfl
theorem q412 : (Jvm.Cond.instanceMethod ({ cls := "DareFord", name := "fault", desc := "(I)I" } : Jvm.MethodName)) ∈ lw_all := lw_g (lw_at lw_m2 86 rfl) rfl
theorem q413 : (Jvm.Cond.selects "DareFord" ({ cls := "DareFord", name := "fault", desc := "(I)I" } : Jvm.MethodName) ({ cls := "DareFord", name := "fault", desc := "(I)I" } : Jvm.MethodName)) ∈ lw_all := lw_g (lw_at lw_m2 87 rfl) rfl
theorem q414 : (Jvm.Cond.code ({ cls := "DareFord", name := "fault", desc := "(I)I" } : Jvm.MethodName) prog_1_method_38_code (2 : Nat) (Option.some Jvm.ClassFile.FieldType.int)) ∈ lw_all := lw_g (lw_at lw_m2 88 rfl) rfl
theorem q415 : (Jvm.Cond.methodLink "DareFord" (195 : Nat) ({ cls := "DareFord", name := "read", desc := "([B)I" } : Jvm.MethodName)) ∈ lw_all := lw_g (lw_at lw_m2 89 rfl) rfl
theorem q416 : (Jvm.Cond.privateMethod ({ cls := "DareFord", name := "read", desc := "([B)I" } : Jvm.MethodName)) ∈ lw_tbl := lw_at lw_m2 90 rfl
theorem q417 : (Jvm.Cond.instanceMethod ({ cls := "DareFord", name := "read", desc := "([B)I" } : Jvm.MethodName)) ∈ lw_all := lw_g (lw_at lw_m2 91 rfl) rfl
theorem q418 : (Jvm.Cond.code ({ cls := "DareFord", name := "read", desc := "([B)I" } : Jvm.MethodName) prog_1_method_37_code (2 : Nat) (Option.some Jvm.ClassFile.FieldType.int)) ∈ lw_all := lw_g (lw_at lw_m2 92 rfl) rfl
theorem q419 : (Jvm.Cond.methodLink "DareFord" (188 : Nat) ({ cls := "DareFord", name := "readHead", desc := "([B)Z" } : Jvm.MethodName)) ∈ lw_all := lw_g (lw_at lw_m2 93 rfl) rfl
theorem q420 : (Jvm.Cond.privateMethod ({ cls := "DareFord", name := "readHead", desc := "([B)Z" } : Jvm.MethodName)) ∈ lw_tbl := lw_at lw_m2 94 rfl
theorem q421 : (Jvm.Cond.instanceMethod ({ cls := "DareFord", name := "readHead", desc := "([B)Z" } : Jvm.MethodName)) ∈ lw_all := lw_g (lw_at lw_m2 95 rfl) rfl
theorem q422 : (Jvm.Cond.code ({ cls := "DareFord", name := "readHead", desc := "([B)Z" } : Jvm.MethodName) prog_1_method_35_code (2 : Nat) (Option.some Jvm.ClassFile.FieldType.boolean)) ∈ lw_all := lw_g (lw_at lw_m2 96 rfl) rfl
theorem q423 : (Jvm.Cond.methodLink "DareFord" (165 : Nat) ({ cls := "DareFord", name := "byteAt", desc := "([BI)I" } : Jvm.MethodName)) ∈ lw_all := lw_g (lw_at lw_m2 97 rfl) rfl
theorem q424 : (Jvm.Cond.static ({ cls := "DareFord", name := "byteAt", desc := "([BI)I" } : Jvm.MethodName)) ∈ lw_all := lw_g (lw_at lw_m2 98 rfl) rfl
theorem q425 : (Jvm.Cond.code ({ cls := "DareFord", name := "byteAt", desc := "([BI)I" } : Jvm.MethodName) prog_1_method_31_code (2 : Nat) (Option.some Jvm.ClassFile.FieldType.int)) ∈ lw_all := lw_g (lw_at lw_m2 99 rfl) rfl
theorem q426 : (Jvm.Cond.methodLink "DareFord" (169 : Nat) ({ cls := "DareFord", name := "figure", desc := "([B)I" } : Jvm.MethodName)) ∈ lw_all := lw_g (lw_at lw_m2 100 rfl) rfl
theorem q427 : (Jvm.Cond.privateMethod ({ cls := "DareFord", name := "figure", desc := "([B)I" } : Jvm.MethodName)) ∈ lw_tbl := lw_at lw_m2 101 rfl
theorem q428 : (Jvm.Cond.instanceMethod ({ cls := "DareFord", name := "figure", desc := "([B)I" } : Jvm.MethodName)) ∈ lw_all := lw_g (lw_at lw_m2 102 rfl) rfl
theorem q429 : (Jvm.Cond.code ({ cls := "DareFord", name := "figure", desc := "([B)I" } : Jvm.MethodName) prog_1_method_33_code (3 : Nat) (Option.some Jvm.ClassFile.FieldType.int)) ∈ lw_all := lw_g (lw_at lw_m2 103 rfl) rfl
theorem q430 : (Jvm.Cond.methodLink "DareFord" (192 : Nat) ({ cls := "DareFord", name := "readOne", desc := "([B)Z" } : Jvm.MethodName)) ∈ lw_all := lw_g (lw_at lw_m2 104 rfl) rfl
theorem q431 : (Jvm.Cond.privateMethod ({ cls := "DareFord", name := "readOne", desc := "([B)Z" } : Jvm.MethodName)) ∈ lw_tbl := lw_at lw_m2 105 rfl
theorem q432 : (Jvm.Cond.instanceMethod ({ cls := "DareFord", name := "readOne", desc := "([B)Z" } : Jvm.MethodName)) ∈ lw_all := lw_g (lw_at lw_m2 106 rfl) rfl
theorem q433 : (Jvm.Cond.code ({ cls := "DareFord", name := "readOne", desc := "([B)Z" } : Jvm.MethodName) prog_1_method_36_code (4 : Nat) (Option.some Jvm.ClassFile.FieldType.boolean)) ∈ lw_all := lw_g (lw_at lw_m2 107 rfl) rfl
theorem q434 : (Jvm.Cond.methodLink "DareFord" (179 : Nat) ({ cls := "DareFord", name := "kindOf", desc := "(I)I" } : Jvm.MethodName)) ∈ lw_all := lw_g (lw_at lw_m2 108 rfl) rfl
theorem q435 : (Jvm.Cond.static ({ cls := "DareFord", name := "kindOf", desc := "(I)I" } : Jvm.MethodName)) ∈ lw_all := lw_g (lw_at lw_m2 109 rfl) rfl
theorem q436 : (Jvm.Cond.code ({ cls := "DareFord", name := "kindOf", desc := "(I)I" } : Jvm.MethodName) prog_1_method_32_code (1 : Nat) (Option.some Jvm.ClassFile.FieldType.int)) ∈ lw_all := lw_g (lw_at lw_m2 110 rfl) rfl
theorem q437 : (Jvm.Cond.methodLink "DareFord" (185 : Nat) ({ cls := "DareFord", name := "readDaring", desc := "([B)I" } : Jvm.MethodName)) ∈ lw_all := lw_g (lw_at lw_m2 111 rfl) rfl
theorem q438 : (Jvm.Cond.privateMethod ({ cls := "DareFord", name := "readDaring", desc := "([B)I" } : Jvm.MethodName)) ∈ lw_tbl := lw_at lw_m2 112 rfl
theorem q439 : (Jvm.Cond.instanceMethod ({ cls := "DareFord", name := "readDaring", desc := "([B)I" } : Jvm.MethodName)) ∈ lw_all := lw_g (lw_at lw_m2 113 rfl) rfl
theorem q440 : (Jvm.Cond.code ({ cls := "DareFord", name := "readDaring", desc := "([B)I" } : Jvm.MethodName) prog_1_method_34_code (6 : Nat) (Option.some Jvm.ClassFile.FieldType.int)) ∈ lw_all := lw_g (lw_at lw_m2 114 rfl) rfl
theorem q441 : (Jvm.Cond.methodLink "DareFord" (173 : Nat) ({ cls := "DareFord", name := "isDaring", desc := "(I)Z" } : Jvm.MethodName)) ∈ lw_all := lw_g (lw_at lw_m2 115 rfl) rfl
theorem q442 : (Jvm.Cond.static ({ cls := "DareFord", name := "isDaring", desc := "(I)Z" } : Jvm.MethodName)) ∈ lw_all := lw_g (lw_at lw_m2 116 rfl) rfl
theorem q443 : (Jvm.Cond.code ({ cls := "DareFord", name := "isDaring", desc := "(I)Z" } : Jvm.MethodName) prog_1_method_22_code (1 : Nat) (Option.some Jvm.ClassFile.FieldType.boolean)) ∈ lw_all := lw_g (lw_at lw_m2 117 rfl) rfl
theorem q445 : (Jvm.Cond.instanceMethod ({ cls := "DareFord", name := "river", desc := "(I)I" } : Jvm.MethodName)) ∈ lw_all := lw_g (lw_at lw_m2 119 rfl) rfl
theorem q446 : (Jvm.Cond.selects "DareFord" ({ cls := "DareFord", name := "river", desc := "(I)I" } : Jvm.MethodName) ({ cls := "DareFord", name := "river", desc := "(I)I" } : Jvm.MethodName)) ∈ lw_all := lw_g (lw_at lw_m2 120 rfl) rfl
theorem q447 : (Jvm.Cond.code ({ cls := "DareFord", name := "river", desc := "(I)I" } : Jvm.MethodName) prog_1_method_39_code (3 : Nat) (Option.some Jvm.ClassFile.FieldType.int)) ∈ lw_all := lw_g (lw_at lw_m2 121 rfl) rfl
theorem q448 : (Jvm.Cond.methodLink "DareFord" (198 : Nat) ({ cls := "DareFord", name := "make", desc := "(II)LDareFord$Person;" } : Jvm.MethodName)) ∈ lw_all := lw_g (lw_at lw_m2 122 rfl) rfl
theorem q449 : (Jvm.Cond.privateMethod ({ cls := "DareFord", name := "make", desc := "(II)LDareFord$Person;" } : Jvm.MethodName)) ∈ lw_tbl := lw_at lw_m2 123 rfl
theorem q450 : (Jvm.Cond.instanceMethod ({ cls := "DareFord", name := "make", desc := "(II)LDareFord$Person;" } : Jvm.MethodName)) ∈ lw_all := lw_g (lw_at lw_m2 124 rfl) rfl
theorem q451 : (Jvm.Cond.code ({ cls := "DareFord", name := "make", desc := "(II)LDareFord$Person;" } : Jvm.MethodName) prog_1_method_20_code (3 : Nat) (Option.some (Jvm.ClassFile.FieldType.object "DareFord$Person"))) ∈ lw_all := lw_g (lw_at lw_m2 125 rfl) rfl
theorem q453 : (Jvm.Cond.methodLink "DareFord" (98 : Nat) ({ cls := "DareFord$Person", name := "<init>", desc := "(LDareFord;I)V" } : Jvm.MethodName)) ∈ lw_all := lw_g (lw_at lw_m2 127 rfl) rfl
theorem q474 : (Jvm.Cond.classLink "DareFord" (101 : Nat) "DareFord$Drunk") ∈ lw_all := lw_g (lw_at lw_m2 148 rfl) rfl
theorem q476 : (Jvm.Cond.methodLink "DareFord" (103 : Nat) ({ cls := "DareFord$Drunk", name := "<init>", desc := "(LDareFord;I)V" } : Jvm.MethodName)) ∈ lw_all := lw_g (lw_at lw_m2 150 rfl) rfl
theorem q486 : (Jvm.Cond.classLink "DareFord" (104 : Nat) "DareFord$Fearful") ∈ lw_all := lw_g (lw_at lw_m2 160 rfl) rfl
theorem q488 : (Jvm.Cond.methodLink "DareFord" (106 : Nat) ({ cls := "DareFord$Fearful", name := "<init>", desc := "(LDareFord;I)V" } : Jvm.MethodName)) ∈ lw_all := lw_g (lw_at lw_m2 162 rfl) rfl
theorem q498 : (Jvm.Cond.classLink "DareFord" (107 : Nat) "DareFord$Bred") ∈ lw_all := lw_g (lw_at lw_m2 172 rfl) rfl
theorem q500 : (Jvm.Cond.methodLink "DareFord" (109 : Nat) ({ cls := "DareFord$Bred", name := "<init>", desc := "(LDareFord;I)V" } : Jvm.MethodName)) ∈ lw_all := lw_g (lw_at lw_m2 174 rfl) rfl
theorem q510 : (Jvm.Cond.classLink "DareFord" (110 : Nat) "DareFord$Bet") ∈ lw_all := lw_g (lw_at lw_m2 184 rfl) rfl
theorem q512 : (Jvm.Cond.methodLink "DareFord" (112 : Nat) ({ cls := "DareFord$Bet", name := "<init>", desc := "(LDareFord;I)V" } : Jvm.MethodName)) ∈ lw_all := lw_g (lw_at lw_m2 186 rfl) rfl
theorem q523 : (Jvm.Cond.classLink "DareFord" (113 : Nat) "DareFord$Quiet") ∈ lw_all := lw_g (lw_at lw_m2 197 rfl) rfl
theorem q525 : (Jvm.Cond.methodLink "DareFord" (115 : Nat) ({ cls := "DareFord$Quiet", name := "<init>", desc := "(LDareFord;I)V" } : Jvm.MethodName)) ∈ lw_all := lw_g (lw_at lw_m2 199 rfl) rfl
theorem q537 : (Jvm.Cond.instanceMethod ({ cls := "DareFord", name := "one", desc := "(II)I" } : Jvm.MethodName)) ∈ lw_all := lw_g (lw_at lw_m2 211 rfl) rfl
theorem q538 : (Jvm.Cond.selects "DareFord" ({ cls := "DareFord", name := "one", desc := "(II)I" } : Jvm.MethodName) ({ cls := "DareFord", name := "one", desc := "(II)I" } : Jvm.MethodName)) ∈ lw_all := lw_g (lw_at lw_m2 212 rfl) rfl
theorem q539 : (Jvm.Cond.code ({ cls := "DareFord", name := "one", desc := "(II)I" } : Jvm.MethodName) prog_1_method_41_code (3 : Nat) (Option.some Jvm.ClassFile.FieldType.int)) ∈ lw_all := lw_g (lw_at lw_m2 213 rfl) rfl
theorem q540 : (Jvm.Cond.methodLink "DareFord" (208 : Nat) ({ cls := "DareFord", name := "isOne", desc := "(I)Z" } : Jvm.MethodName)) ∈ lw_all := lw_g (lw_at lw_m2 214 rfl) rfl
theorem q541 : (Jvm.Cond.privateMethod ({ cls := "DareFord", name := "isOne", desc := "(I)Z" } : Jvm.MethodName)) ∈ lw_tbl := lw_at lw_m2 215 rfl
theorem q542 : (Jvm.Cond.instanceMethod ({ cls := "DareFord", name := "isOne", desc := "(I)Z" } : Jvm.MethodName)) ∈ lw_all := lw_g (lw_at lw_m2 216 rfl) rfl
theorem q543 : (Jvm.Cond.code ({ cls := "DareFord", name := "isOne", desc := "(I)Z" } : Jvm.MethodName) prog_1_method_21_code (2 : Nat) (Option.some Jvm.ClassFile.FieldType.boolean)) ∈ lw_all := lw_g (lw_at lw_m2 217 rfl) rfl
theorem q544 : (Jvm.Cond.methodLink "DareFord" (211 : Nat) ({ cls := "DareFord", name := "oneTells", desc := "(II)I" } : Jvm.MethodName)) ∈ lw_all := lw_g (lw_at lw_m2 218 rfl) rfl
theorem q545 : (Jvm.Cond.privateMethod ({ cls := "DareFord", name := "oneTells", desc := "(II)I" } : Jvm.MethodName)) ∈ lw_tbl := lw_at lw_m2 219 rfl
theorem q546 : (Jvm.Cond.instanceMethod ({ cls := "DareFord", name := "oneTells", desc := "(II)I" } : Jvm.MethodName)) ∈ lw_all := lw_g (lw_at lw_m2 220 rfl) rfl
theorem q547 : (Jvm.Cond.code ({ cls := "DareFord", name := "oneTells", desc := "(II)I" } : Jvm.MethodName) prog_1_method_40_code (3 : Nat) (Option.some Jvm.ClassFile.FieldType.int)) ∈ lw_all := lw_g (lw_at lw_m2 221 rfl) rfl
theorem q548 : (Jvm.Cond.methodLink "DareFord" (205 : Nat) ({ cls := "DareFord$Person", name := "kind", desc := "()I" } : Jvm.MethodName)) ∈ lw_all := lw_g (lw_at lw_m2 222 rfl) rfl
theorem q573 : (Jvm.Cond.methodLink "DareFord" (145 : Nat) ({ cls := "DareFord", name := "daresOn", desc := "(II)I" } : Jvm.MethodName)) ∈ lw_all := lw_g (lw_at lw_m3 7 rfl) rfl
theorem q574 : (Jvm.Cond.privateMethod ({ cls := "DareFord", name := "daresOn", desc := "(II)I" } : Jvm.MethodName)) ∈ lw_tbl := lw_at lw_m3 8 rfl
theorem q575 : (Jvm.Cond.instanceMethod ({ cls := "DareFord", name := "daresOn", desc := "(II)I" } : Jvm.MethodName)) ∈ lw_all := lw_g (lw_at lw_m3 9 rfl) rfl
theorem q576 : (Jvm.Cond.code ({ cls := "DareFord", name := "daresOn", desc := "(II)I" } : Jvm.MethodName) prog_1_method_26_code (3 : Nat) (Option.some Jvm.ClassFile.FieldType.int)) ∈ lw_all := lw_g (lw_at lw_m3 10 rfl) rfl
theorem q577 : (Jvm.Cond.methodLink "DareFord" (134 : Nat) ({ cls := "DareFord", name := "farOn", desc := "(II)I" } : Jvm.MethodName)) ∈ lw_all := lw_g (lw_at lw_m3 11 rfl) rfl
theorem q578 : (Jvm.Cond.privateMethod ({ cls := "DareFord", name := "farOn", desc := "(II)I" } : Jvm.MethodName)) ∈ lw_tbl := lw_at lw_m3 12 rfl
theorem q579 : (Jvm.Cond.instanceMethod ({ cls := "DareFord", name := "farOn", desc := "(II)I" } : Jvm.MethodName)) ∈ lw_all := lw_g (lw_at lw_m3 13 rfl) rfl
theorem q580 : (Jvm.Cond.code ({ cls := "DareFord", name := "farOn", desc := "(II)I" } : Jvm.MethodName) prog_1_method_25_code (3 : Nat) (Option.some Jvm.ClassFile.FieldType.int)) ∈ lw_all := lw_g (lw_at lw_m3 14 rfl) rfl
theorem q581 : (Jvm.Cond.methodLink "DareFord" (129 : Nat) ({ cls := "java/lang/Math", name := "abs", desc := "(I)I" } : Jvm.MethodName)) ∈ lw_all := lw_g (lw_at lw_m3 15 rfl) rfl
theorem q584 : (Jvm.Cond.methodLink "DareFord" (137 : Nat) ({ cls := "DareFord", name := "daredBy", desc := "(LDareFord$Person;III)I" } : Jvm.MethodName)) ∈ lw_all := lw_g (lw_at lw_m3 18 rfl) rfl
theorem q585 : (Jvm.Cond.static ({ cls := "DareFord", name := "daredBy", desc := "(LDareFord$Person;III)I" } : Jvm.MethodName)) ∈ lw_all := lw_g (lw_at lw_m3 19 rfl) rfl
theorem q586 : (Jvm.Cond.code ({ cls := "DareFord", name := "daredBy", desc := "(LDareFord$Person;III)I" } : Jvm.MethodName) prog_1_method_23_code (5 : Nat) (Option.some Jvm.ClassFile.FieldType.int)) ∈ lw_all := lw_g (lw_at lw_m3 20 rfl) rfl
theorem q587 : (Jvm.Cond.interfaceEntry "DareFord" (119 : Nat)) ∈ lw_tbl := lw_at lw_m3 21 rfl
theorem q588 : (Jvm.Cond.methodLink "DareFord" (119 : Nat) ({ cls := "DareFord$Daring", name := "dares", desc := "(III)I" } : Jvm.MethodName)) ∈ lw_all := lw_g (lw_at lw_m3 22 rfl) rfl
theorem q637 : (Jvm.Cond.instanceMethod ({ cls := "DareFord", name := "mark", desc := "(II)I" } : Jvm.MethodName)) ∈ lw_all := lw_g (lw_at lw_m3 71 rfl) rfl
theorem q638 : (Jvm.Cond.selects "DareFord" ({ cls := "DareFord", name := "mark", desc := "(II)I" } : Jvm.MethodName) ({ cls := "DareFord", name := "mark", desc := "(II)I" } : Jvm.MethodName)) ∈ lw_all := lw_g (lw_at lw_m3 72 rfl) rfl
theorem q639 : (Jvm.Cond.codeWith ({ cls := "DareFord", name := "mark", desc := "(II)I" } : Jvm.MethodName) prog_1_method_42_code (9 : Nat) (Option.some Jvm.ClassFile.FieldType.int) [((26 : Nat), (67 : Nat), (154 : Nat), (227 : Nat)), ((68 : Nat), (98 : Nat), (154 : Nat), (227 : Nat)), ((99 : Nat), (129 : Nat), (154 : Nat), (227 : Nat)), ((130 : Nat), (141 : Nat), (154 : Nat), (227 : Nat)), ((142 : Nat), (153 : Nat), (154 : Nat), (227 : Nat))]) ∈ lw_all := lw_g (lw_at lw_m3 73 rfl) rfl
theorem q640 : (Jvm.Cond.classLink "DareFord" (227 : Nat) "java/lang/ClassCastException") ∈ lw_all := lw_g (lw_at lw_m3 74 rfl) rfl
theorem q654 : (Jvm.Cond.methodLink "DareFord" (214 : Nat) ({ cls := "DareFord$Drunk", name := "mark", desc := "()I" } : Jvm.MethodName)) ∈ lw_all := lw_g (lw_at lw_m3 88 rfl) rfl
theorem q660 : (Jvm.Cond.methodLink "DareFord" (217 : Nat) ({ cls := "DareFord$Quiet", name := "asFearful", desc := "()I" } : Jvm.MethodName)) ∈ lw_all := lw_g (lw_at lw_m3 94 rfl) rfl
theorem q668 : (Jvm.Cond.methodLink "DareFord" (220 : Nat) ({ cls := "DareFord$Fearful", name := "mark", desc := "()I" } : Jvm.MethodName)) ∈ lw_all := lw_g (lw_at lw_m3 102 rfl) rfl
theorem q672 : (Jvm.Cond.methodLink "DareFord" (221 : Nat) ({ cls := "DareFord$Bet", name := "asBred", desc := "()I" } : Jvm.MethodName)) ∈ lw_all := lw_g (lw_at lw_m3 106 rfl) rfl
theorem q679 : (Jvm.Cond.methodLink "DareFord" (224 : Nat) ({ cls := "DareFord$Bred", name := "mark", desc := "()I" } : Jvm.MethodName)) ∈ lw_all := lw_g (lw_at lw_m3 113 rfl) rfl
theorem q683 : (Jvm.Cond.methodLink "DareFord" (225 : Nat) ({ cls := "DareFord$Bet", name := "mark", desc := "()I" } : Jvm.MethodName)) ∈ lw_all := lw_g (lw_at lw_m3 117 rfl) rfl
theorem q684 : (Jvm.Cond.methodLink "DareFord" (226 : Nat) ({ cls := "DareFord$Quiet", name := "mark", desc := "()I" } : Jvm.MethodName)) ∈ lw_all := lw_g (lw_at lw_m3 118 rfl) rfl
theorem q686 : (Jvm.Cond.instanceMethod ({ cls := "DareFord", name := "night", desc := "()I" } : Jvm.MethodName)) ∈ lw_all := lw_g (lw_at lw_m3 120 rfl) rfl
theorem q687 : (Jvm.Cond.selects "DareFord" ({ cls := "DareFord", name := "night", desc := "()I" } : Jvm.MethodName) ({ cls := "DareFord", name := "night", desc := "()I" } : Jvm.MethodName)) ∈ lw_all := lw_g (lw_at lw_m3 121 rfl) rfl
theorem q688 : (Jvm.Cond.code ({ cls := "DareFord", name := "night", desc := "()I" } : Jvm.MethodName) prog_1_method_45_code (1 : Nat) (Option.some Jvm.ClassFile.FieldType.int)) ∈ lw_all := lw_g (lw_at lw_m3 122 rfl) rfl
theorem q689 : (Jvm.Cond.methodLink "DareFord" (229 : Nat) ({ cls := "DareFord", name := "remember", desc := "()V" } : Jvm.MethodName)) ∈ lw_all := lw_g (lw_at lw_m3 123 rfl) rfl
theorem q690 : (Jvm.Cond.privateMethod ({ cls := "DareFord", name := "remember", desc := "()V" } : Jvm.MethodName)) ∈ lw_tbl := lw_at lw_m3 124 rfl
theorem q691 : (Jvm.Cond.instanceMethod ({ cls := "DareFord", name := "remember", desc := "()V" } : Jvm.MethodName)) ∈ lw_all := lw_g (lw_at lw_m3 125 rfl) rfl
theorem q692 : (Jvm.Cond.code ({ cls := "DareFord", name := "remember", desc := "()V" } : Jvm.MethodName) prog_1_method_43_code (1 : Nat) (Option.none : Option Jvm.ClassFile.FieldType)) ∈ lw_all := lw_g (lw_at lw_m3 126 rfl) rfl
theorem q693 : (Jvm.Cond.methodLink "DareFord" (232 : Nat) ({ cls := "DareFord", name := "passes", desc := "(I)I" } : Jvm.MethodName)) ∈ lw_all := lw_g (lw_at lw_m3 127 rfl) rfl
theorem q694 : (Jvm.Cond.privateMethod ({ cls := "DareFord", name := "passes", desc := "(I)I" } : Jvm.MethodName)) ∈ lw_tbl := lw_at lw_m3 128 rfl
theorem q695 : (Jvm.Cond.instanceMethod ({ cls := "DareFord", name := "passes", desc := "(I)I" } : Jvm.MethodName)) ∈ lw_all := lw_g (lw_at lw_m3 129 rfl) rfl
theorem q696 : (Jvm.Cond.code ({ cls := "DareFord", name := "passes", desc := "(I)I" } : Jvm.MethodName) prog_1_method_29_code (6 : Nat) (Option.some Jvm.ClassFile.FieldType.int)) ∈ lw_all := lw_g (lw_at lw_m3 130 rfl) rfl
theorem q697 : (Jvm.Cond.methodLink "DareFord" (152 : Nat) ({ cls := "DareFord", name := "hasIt", desc := "(II)I" } : Jvm.MethodName)) ∈ lw_all := lw_g (lw_at lw_m3 131 rfl) rfl
theorem q698 : (Jvm.Cond.privateMethod ({ cls := "DareFord", name := "hasIt", desc := "(II)I" } : Jvm.MethodName)) ∈ lw_tbl := lw_at lw_m3 132 rfl
theorem q699 : (Jvm.Cond.instanceMethod ({ cls := "DareFord", name := "hasIt", desc := "(II)I" } : Jvm.MethodName)) ∈ lw_all := lw_g (lw_at lw_m3 133 rfl) rfl
theorem q700 : (Jvm.Cond.code ({ cls := "DareFord", name := "hasIt", desc := "(II)I" } : Jvm.MethodName) prog_1_method_28_code (7 : Nat) (Option.some Jvm.ClassFile.FieldType.int)) ∈ lw_all := lw_g (lw_at lw_m3 134 rfl) rfl
theorem q701 : (Jvm.Cond.methodLink "DareFord" (141 : Nat) ({ cls := "DareFord", name := "has", desc := "(II)Z" } : Jvm.MethodName)) ∈ lw_all := lw_g (lw_at lw_m3 135 rfl) rfl
theorem q702 : (Jvm.Cond.static ({ cls := "DareFord", name := "has", desc := "(II)Z" } : Jvm.MethodName)) ∈ lw_all := lw_g (lw_at lw_m3 136 rfl) rfl
theorem q703 : (Jvm.Cond.code ({ cls := "DareFord", name := "has", desc := "(II)Z" } : Jvm.MethodName) prog_1_method_2_code (2 : Nat) (Option.some Jvm.ClassFile.FieldType.boolean)) ∈ lw_all := lw_g (lw_at lw_m3 137 rfl) rfl
theorem q704 : (Jvm.Cond.methodLink "DareFord" (148 : Nat) ({ cls := "DareFord", name := "isAhead", desc := "(IIIII)Z" } : Jvm.MethodName)) ∈ lw_all := lw_g (lw_at lw_m3 138 rfl) rfl
theorem q705 : (Jvm.Cond.privateMethod ({ cls := "DareFord", name := "isAhead", desc := "(IIIII)Z" } : Jvm.MethodName)) ∈ lw_tbl := lw_at lw_m3 139 rfl
theorem q706 : (Jvm.Cond.instanceMethod ({ cls := "DareFord", name := "isAhead", desc := "(IIIII)Z" } : Jvm.MethodName)) ∈ lw_all := lw_g (lw_at lw_m3 140 rfl) rfl
theorem q707 : (Jvm.Cond.code ({ cls := "DareFord", name := "isAhead", desc := "(IIIII)Z" } : Jvm.MethodName) prog_1_method_27_code (6 : Nat) (Option.some Jvm.ClassFile.FieldType.boolean)) ∈ lw_all := lw_g (lw_at lw_m3 141 rfl) rfl
theorem q708 : (Jvm.Cond.methodLink "DareFord" (155 : Nat) ({ cls := "DareFord", name := "fadedBy", desc := "(LDareFord$Person;)I" } : Jvm.MethodName)) ∈ lw_all := lw_g (lw_at lw_m3 142 rfl) rfl
theorem q709 : (Jvm.Cond.static ({ cls := "DareFord", name := "fadedBy", desc := "(LDareFord$Person;)I" } : Jvm.MethodName)) ∈ lw_all := lw_g (lw_at lw_m3 143 rfl) rfl
theorem q710 : (Jvm.Cond.code ({ cls := "DareFord", name := "fadedBy", desc := "(LDareFord$Person;)I" } : Jvm.MethodName) prog_1_method_24_code (2 : Nat) (Option.some Jvm.ClassFile.FieldType.int)) ∈ lw_all := lw_g (lw_at lw_m3 144 rfl) rfl
theorem q711 : (Jvm.Cond.interfaceEntry "DareFord" (125 : Nat)) ∈ lw_tbl := lw_at lw_m3 145 rfl
theorem q712 : (Jvm.Cond.methodLink "DareFord" (125 : Nat) ({ cls := "DareFord$Daring", name := "fades", desc := "()I" } : Jvm.MethodName)) ∈ lw_all := lw_g (lw_at lw_m3 146 rfl) rfl
theorem q734 : (Jvm.Cond.methodLink "DareFord" (159 : Nat) ({ cls := "java/lang/Math", name := "max", desc := "(II)I" } : Jvm.MethodName)) ∈ lw_all := lw_g (lw_at lw_m3 168 rfl) rfl
theorem q736 : (Jvm.Cond.instanceMethod ({ cls := "DareFord", name := "raise", desc := "(II)I" } : Jvm.MethodName)) ∈ lw_all := lw_g (lw_at lw_m3 170 rfl) rfl
theorem q737 : (Jvm.Cond.selects "DareFord" ({ cls := "DareFord", name := "raise", desc := "(II)I" } : Jvm.MethodName) ({ cls := "DareFord", name := "raise", desc := "(II)I" } : Jvm.MethodName)) ∈ lw_all := lw_g (lw_at lw_m3 171 rfl) rfl
theorem q738 : (Jvm.Cond.code ({ cls := "DareFord", name := "raise", desc := "(II)I" } : Jvm.MethodName) prog_1_method_47_code (3 : Nat) (Option.some Jvm.ClassFile.FieldType.int)) ∈ lw_all := lw_g (lw_at lw_m3 172 rfl) rfl
theorem q739 : (Jvm.Cond.methodLink "DareFord" (235 : Nat) ({ cls := "DareFord", name := "dared", desc := "(III)I" } : Jvm.MethodName)) ∈ lw_all := lw_g (lw_at lw_m3 173 rfl) rfl
theorem q740 : (Jvm.Cond.privateMethod ({ cls := "DareFord", name := "dared", desc := "(III)I" } : Jvm.MethodName)) ∈ lw_tbl := lw_at lw_m3 174 rfl
theorem q741 : (Jvm.Cond.instanceMethod ({ cls := "DareFord", name := "dared", desc := "(III)I" } : Jvm.MethodName)) ∈ lw_all := lw_g (lw_at lw_m3 175 rfl) rfl
theorem q742 : (Jvm.Cond.code ({ cls := "DareFord", name := "dared", desc := "(III)I" } : Jvm.MethodName) prog_1_method_46_code (5 : Nat) (Option.some Jvm.ClassFile.FieldType.int)) ∈ lw_all := lw_g (lw_at lw_m3 176 rfl) rfl
theorem q744 : (Jvm.Cond.instanceMethod ({ cls := "DareFord", name := "shame", desc := "(II)I" } : Jvm.MethodName)) ∈ lw_all := lw_g (lw_at lw_m3 178 rfl) rfl
theorem q745 : (Jvm.Cond.selects "DareFord" ({ cls := "DareFord", name := "shame", desc := "(II)I" } : Jvm.MethodName) ({ cls := "DareFord", name := "shame", desc := "(II)I" } : Jvm.MethodName)) ∈ lw_all := lw_g (lw_at lw_m3 179 rfl) rfl
theorem q746 : (Jvm.Cond.code ({ cls := "DareFord", name := "shame", desc := "(II)I" } : Jvm.MethodName) prog_1_method_48_code (3 : Nat) (Option.some Jvm.ClassFile.FieldType.int)) ∈ lw_all := lw_g (lw_at lw_m3 180 rfl) rfl
theorem q748 : (Jvm.Cond.instanceMethod ({ cls := "DareFord", name := "door", desc := "(II)I" } : Jvm.MethodName)) ∈ lw_all := lw_g (lw_at lw_m3 182 rfl) rfl
theorem q749 : (Jvm.Cond.selects "DareFord" ({ cls := "DareFord", name := "door", desc := "(II)I" } : Jvm.MethodName) ({ cls := "DareFord", name := "door", desc := "(II)I" } : Jvm.MethodName)) ∈ lw_all := lw_g (lw_at lw_m3 183 rfl) rfl
theorem q750 : (Jvm.Cond.code ({ cls := "DareFord", name := "door", desc := "(II)I" } : Jvm.MethodName) prog_1_method_49_code (4 : Nat) (Option.some Jvm.ClassFile.FieldType.int)) ∈ lw_all := lw_g (lw_at lw_m3 184 rfl) rfl
theorem q752 : (Jvm.Cond.instanceMethod ({ cls := "DareFord", name := "undo", desc := "(I)I" } : Jvm.MethodName)) ∈ lw_all := lw_g (lw_at lw_m3 186 rfl) rfl
theorem q753 : (Jvm.Cond.selects "DareFord" ({ cls := "DareFord", name := "undo", desc := "(I)I" } : Jvm.MethodName) ({ cls := "DareFord", name := "undo", desc := "(I)I" } : Jvm.MethodName)) ∈ lw_all := lw_g (lw_at lw_m3 187 rfl) rfl
theorem q754 : (Jvm.Cond.code ({ cls := "DareFord", name := "undo", desc := "(I)I" } : Jvm.MethodName) prog_1_method_50_code (3 : Nat) (Option.some Jvm.ClassFile.FieldType.int)) ∈ lw_all := lw_g (lw_at lw_m3 188 rfl) rfl
theorem q756 : (Jvm.Cond.instanceMethod ({ cls := "DareFord", name := "keep", desc := "(I)I" } : Jvm.MethodName)) ∈ lw_all := lw_g (lw_at lw_m3 190 rfl) rfl
theorem q757 : (Jvm.Cond.selects "DareFord" ({ cls := "DareFord", name := "keep", desc := "(I)I" } : Jvm.MethodName) ({ cls := "DareFord", name := "keep", desc := "(I)I" } : Jvm.MethodName)) ∈ lw_all := lw_g (lw_at lw_m3 191 rfl) rfl
theorem q758 : (Jvm.Cond.code ({ cls := "DareFord", name := "keep", desc := "(I)I" } : Jvm.MethodName) prog_1_method_51_code (3 : Nat) (Option.some Jvm.ClassFile.FieldType.int)) ∈ lw_all := lw_g (lw_at lw_m3 192 rfl) rfl
theorem q760 : (Jvm.Cond.instanceMethod ({ cls := "DareFord", name := "on", desc := "(I)I" } : Jvm.MethodName)) ∈ lw_all := lw_g (lw_at lw_m3 194 rfl) rfl
theorem q761 : (Jvm.Cond.selects "DareFord" ({ cls := "DareFord", name := "on", desc := "(I)I" } : Jvm.MethodName) ({ cls := "DareFord", name := "on", desc := "(I)I" } : Jvm.MethodName)) ∈ lw_all := lw_g (lw_at lw_m3 195 rfl) rfl
theorem q762 : (Jvm.Cond.code ({ cls := "DareFord", name := "on", desc := "(I)I" } : Jvm.MethodName) prog_1_method_52_code (2 : Nat) (Option.some Jvm.ClassFile.FieldType.int)) ∈ lw_all := lw_g (lw_at lw_m3 196 rfl) rfl
theorem q764 : (Jvm.Cond.instanceMethod ({ cls := "DareFord", name := "dares", desc := "(IIII)I" } : Jvm.MethodName)) ∈ lw_all := lw_g (lw_at lw_m3 198 rfl) rfl
theorem q765 : (Jvm.Cond.selects "DareFord" ({ cls := "DareFord", name := "dares", desc := "(IIII)I" } : Jvm.MethodName) ({ cls := "DareFord", name := "dares", desc := "(IIII)I" } : Jvm.MethodName)) ∈ lw_all := lw_g (lw_at lw_m3 199 rfl) rfl
theorem q766 : (Jvm.Cond.code ({ cls := "DareFord", name := "dares", desc := "(IIII)I" } : Jvm.MethodName) prog_1_method_53_code (5 : Nat) (Option.some Jvm.ClassFile.FieldType.int)) ∈ lw_all := lw_g (lw_at lw_m3 200 rfl) rfl
theorem q768 : (Jvm.Cond.instanceMethod ({ cls := "DareFord", name := "where", desc := "(I)I" } : Jvm.MethodName)) ∈ lw_all := lw_g (lw_at lw_m3 202 rfl) rfl
theorem q769 : (Jvm.Cond.selects "DareFord" ({ cls := "DareFord", name := "where", desc := "(I)I" } : Jvm.MethodName) ({ cls := "DareFord", name := "where", desc := "(I)I" } : Jvm.MethodName)) ∈ lw_all := lw_g (lw_at lw_m3 203 rfl) rfl
theorem q770 : (Jvm.Cond.code ({ cls := "DareFord", name := "where", desc := "(I)I" } : Jvm.MethodName) prog_1_method_54_code (5 : Nat) (Option.some Jvm.ClassFile.FieldType.int)) ∈ lw_all := lw_g (lw_at lw_m3 204 rfl) rfl
theorem q771 : (Jvm.Cond.methodLink "DareFord" (238 : Nat) ({ cls := "DareFord", name := "need", desc := "(Z)I" } : Jvm.MethodName)) ∈ lw_all := lw_g (lw_at lw_m3 205 rfl) rfl
theorem q772 : (Jvm.Cond.privateMethod ({ cls := "DareFord", name := "need", desc := "(Z)I" } : Jvm.MethodName)) ∈ lw_tbl := lw_at lw_m3 206 rfl
theorem q773 : (Jvm.Cond.instanceMethod ({ cls := "DareFord", name := "need", desc := "(Z)I" } : Jvm.MethodName)) ∈ lw_all := lw_g (lw_at lw_m3 207 rfl) rfl
theorem q774 : (Jvm.Cond.code ({ cls := "DareFord", name := "need", desc := "(Z)I" } : Jvm.MethodName) prog_1_method_44_code (2 : Nat) (Option.some Jvm.ClassFile.FieldType.int)) ∈ lw_all := lw_g (lw_at lw_m3 208 rfl) rfl
theorem q775 : (Jvm.Cond.methodLink "DareFord" (242 : Nat) ({ cls := "DareFord", name := "frame", desc := "(II)V" } : Jvm.MethodName)) ∈ lw_all := lw_g (lw_at lw_m3 209 rfl) rfl
theorem q776 : (Jvm.Cond.privateMethod ({ cls := "DareFord", name := "frame", desc := "(II)V" } : Jvm.MethodName)) ∈ lw_tbl := lw_at lw_m3 210 rfl
theorem q777 : (Jvm.Cond.instanceMethod ({ cls := "DareFord", name := "frame", desc := "(II)V" } : Jvm.MethodName)) ∈ lw_all := lw_g (lw_at lw_m3 211 rfl) rfl
theorem q778 : (Jvm.Cond.code ({ cls := "DareFord", name := "frame", desc := "(II)V" } : Jvm.MethodName) prog_1_method_30_code (3 : Nat) (Option.none : Option Jvm.ClassFile.FieldType)) ∈ lw_all := lw_g (lw_at lw_m3 212 rfl) rfl
theorem q780 : (Jvm.Cond.instanceMethod ({ cls := "DareFord", name := "crosses", desc := "(II)I" } : Jvm.MethodName)) ∈ lw_all := lw_g (lw_at lw_m3 214 rfl) rfl
theorem q781 : (Jvm.Cond.selects "DareFord" ({ cls := "DareFord", name := "crosses", desc := "(II)I" } : Jvm.MethodName) ({ cls := "DareFord", name := "crosses", desc := "(II)I" } : Jvm.MethodName)) ∈ lw_all := lw_g (lw_at lw_m3 215 rfl) rfl
theorem q782 : (Jvm.Cond.code ({ cls := "DareFord", name := "crosses", desc := "(II)I" } : Jvm.MethodName) prog_1_method_55_code (5 : Nat) (Option.some Jvm.ClassFile.FieldType.int)) ∈ lw_all := lw_g (lw_at lw_m3 216 rfl) rfl
theorem q784 : (Jvm.Cond.instanceMethod ({ cls := "DareFord", name := "first", desc := "(I)I" } : Jvm.MethodName)) ∈ lw_all := lw_g (lw_at lw_m3 218 rfl) rfl
theorem q785 : (Jvm.Cond.selects "DareFord" ({ cls := "DareFord", name := "first", desc := "(I)I" } : Jvm.MethodName) ({ cls := "DareFord", name := "first", desc := "(I)I" } : Jvm.MethodName)) ∈ lw_all := lw_g (lw_at lw_m3 219 rfl) rfl
theorem q786 : (Jvm.Cond.code ({ cls := "DareFord", name := "first", desc := "(I)I" } : Jvm.MethodName) prog_1_method_56_code (3 : Nat) (Option.some Jvm.ClassFile.FieldType.int)) ∈ lw_all := lw_g (lw_at lw_m3 220 rfl) rfl
theorem q788 : (Jvm.Cond.instanceMethod ({ cls := "DareFord", name := "lift", desc := "(II)I" } : Jvm.MethodName)) ∈ lw_all := lw_g (lw_at lw_m3 222 rfl) rfl
theorem q789 : (Jvm.Cond.selects "DareFord" ({ cls := "DareFord", name := "lift", desc := "(II)I" } : Jvm.MethodName) ({ cls := "DareFord", name := "lift", desc := "(II)I" } : Jvm.MethodName)) ∈ lw_all := lw_g (lw_at lw_m3 223 rfl) rfl
theorem q790 : (Jvm.Cond.code ({ cls := "DareFord", name := "lift", desc := "(II)I" } : Jvm.MethodName) prog_1_method_58_code (4 : Nat) (Option.some Jvm.ClassFile.FieldType.int)) ∈ lw_all := lw_g (lw_at lw_m3 224 rfl) rfl
theorem q791 : (Jvm.Cond.methodLink "DareFord" (246 : Nat) ({ cls := "DareFord", name := "hadBy", desc := "(III)I" } : Jvm.MethodName)) ∈ lw_all := lw_g (lw_at lw_m3 225 rfl) rfl
theorem q792 : (Jvm.Cond.privateMethod ({ cls := "DareFord", name := "hadBy", desc := "(III)I" } : Jvm.MethodName)) ∈ lw_tbl := lw_at lw_m3 226 rfl
theorem q793 : (Jvm.Cond.instanceMethod ({ cls := "DareFord", name := "hadBy", desc := "(III)I" } : Jvm.MethodName)) ∈ lw_all := lw_g (lw_at lw_m3 227 rfl) rfl
theorem q794 : (Jvm.Cond.code ({ cls := "DareFord", name := "hadBy", desc := "(III)I" } : Jvm.MethodName) prog_1_method_57_code (6 : Nat) (Option.some Jvm.ClassFile.FieldType.int)) ∈ lw_all := lw_g (lw_at lw_m3 228 rfl) rfl
theorem q796 : (Jvm.Cond.instanceMethod ({ cls := "DareFord", name := "cheap", desc := "(II)I" } : Jvm.MethodName)) ∈ lw_all := lw_g (lw_at lw_m3 230 rfl) rfl
theorem q797 : (Jvm.Cond.selects "DareFord" ({ cls := "DareFord", name := "cheap", desc := "(II)I" } : Jvm.MethodName) ({ cls := "DareFord", name := "cheap", desc := "(II)I" } : Jvm.MethodName)) ∈ lw_all := lw_g (lw_at lw_m3 231 rfl) rfl
theorem q798 : (Jvm.Cond.code ({ cls := "DareFord", name := "cheap", desc := "(II)I" } : Jvm.MethodName) prog_1_method_62_code (6 : Nat) (Option.some Jvm.ClassFile.FieldType.int)) ∈ lw_all := lw_g (lw_at lw_m3 232 rfl) rfl
theorem q799 : (Jvm.Cond.constant "DareFord" (249 : Nat) (1000000 : Int32)) ∈ lw_all := lw_g (lw_at lw_m3 233 rfl) rfl
theorem q800 : (Jvm.Cond.methodLink "DareFord" (253 : Nat) ({ cls := "DareFord", name := "changed", desc := "(II)I" } : Jvm.MethodName)) ∈ lw_all := lw_g (lw_at lw_m3 234 rfl) rfl
theorem q801 : (Jvm.Cond.privateMethod ({ cls := "DareFord", name := "changed", desc := "(II)I" } : Jvm.MethodName)) ∈ lw_tbl := lw_at lw_m3 235 rfl
theorem q802 : (Jvm.Cond.instanceMethod ({ cls := "DareFord", name := "changed", desc := "(II)I" } : Jvm.MethodName)) ∈ lw_all := lw_g (lw_at lw_m3 236 rfl) rfl
theorem q803 : (Jvm.Cond.code ({ cls := "DareFord", name := "changed", desc := "(II)I" } : Jvm.MethodName) prog_1_method_60_code (7 : Nat) (Option.some Jvm.ClassFile.FieldType.int)) ∈ lw_all := lw_g (lw_at lw_m3 237 rfl) rfl
theorem q804 : (Jvm.Cond.methodLink "DareFord" (250 : Nat) ({ cls := "DareFord", name := "shamed", desc := "(III)I" } : Jvm.MethodName)) ∈ lw_all := lw_g (lw_at lw_m3 238 rfl) rfl
theorem q805 : (Jvm.Cond.privateMethod ({ cls := "DareFord", name := "shamed", desc := "(III)I" } : Jvm.MethodName)) ∈ lw_tbl := lw_at lw_m3 239 rfl
theorem q806 : (Jvm.Cond.instanceMethod ({ cls := "DareFord", name := "shamed", desc := "(III)I" } : Jvm.MethodName)) ∈ lw_all := lw_g (lw_at lw_m4 0 rfl) rfl
theorem q807 : (Jvm.Cond.code ({ cls := "DareFord", name := "shamed", desc := "(III)I" } : Jvm.MethodName) prog_1_method_59_code (6 : Nat) (Option.some Jvm.ClassFile.FieldType.int)) ∈ lw_all := lw_g (lw_at lw_m4 1 rfl) rfl
theorem q808 : (Jvm.Cond.methodLink "DareFord" (256 : Nat) ({ cls := "DareFord", name := "rowTo", desc := "(I[II)V" } : Jvm.MethodName)) ∈ lw_all := lw_g (lw_at lw_m4 2 rfl) rfl
theorem q809 : (Jvm.Cond.privateMethod ({ cls := "DareFord", name := "rowTo", desc := "(I[II)V" } : Jvm.MethodName)) ∈ lw_tbl := lw_at lw_m4 3 rfl
theorem q810 : (Jvm.Cond.instanceMethod ({ cls := "DareFord", name := "rowTo", desc := "(I[II)V" } : Jvm.MethodName)) ∈ lw_all := lw_g (lw_at lw_m4 4 rfl) rfl
theorem q811 : (Jvm.Cond.code ({ cls := "DareFord", name := "rowTo", desc := "(I[II)V" } : Jvm.MethodName) prog_1_method_61_code (5 : Nat) (Option.none : Option Jvm.ClassFile.FieldType)) ∈ lw_all := lw_g (lw_at lw_m4 5 rfl) rfl
theorem q813 : (Jvm.Cond.instanceMethod ({ cls := "DareFord", name := "darings", desc := "(II)I" } : Jvm.MethodName)) ∈ lw_all := lw_g (lw_at lw_m4 7 rfl) rfl
theorem q814 : (Jvm.Cond.selects "DareFord" ({ cls := "DareFord", name := "darings", desc := "(II)I" } : Jvm.MethodName) ({ cls := "DareFord", name := "darings", desc := "(II)I" } : Jvm.MethodName)) ∈ lw_all := lw_g (lw_at lw_m4 8 rfl) rfl
theorem q815 : (Jvm.Cond.code ({ cls := "DareFord", name := "darings", desc := "(II)I" } : Jvm.MethodName) prog_1_method_66_code (4 : Nat) (Option.some Jvm.ClassFile.FieldType.int)) ∈ lw_all := lw_g (lw_at lw_m4 9 rfl) rfl
theorem q816 : (Jvm.Cond.methodLink "DareFord" (264 : Nat) ({ cls := "DareFord", name := "needNotes", desc := "(II)I" } : Jvm.MethodName)) ∈ lw_all := lw_g (lw_at lw_m4 10 rfl) rfl
theorem q817 : (Jvm.Cond.privateMethod ({ cls := "DareFord", name := "needNotes", desc := "(II)I" } : Jvm.MethodName)) ∈ lw_tbl := lw_at lw_m4 11 rfl
theorem q818 : (Jvm.Cond.instanceMethod ({ cls := "DareFord", name := "needNotes", desc := "(II)I" } : Jvm.MethodName)) ∈ lw_all := lw_g (lw_at lw_m4 12 rfl) rfl
theorem q819 : (Jvm.Cond.code ({ cls := "DareFord", name := "needNotes", desc := "(II)I" } : Jvm.MethodName) prog_1_method_63_code (9 : Nat) (Option.some Jvm.ClassFile.FieldType.int)) ∈ lw_all := lw_g (lw_at lw_m4 13 rfl) rfl
theorem q820 : (Jvm.Cond.methodLink "DareFord" (267 : Nat) ({ cls := "DareFord", name := "daringSet", desc := "(I[I)I" } : Jvm.MethodName)) ∈ lw_all := lw_g (lw_at lw_m4 14 rfl) rfl
theorem q821 : (Jvm.Cond.privateMethod ({ cls := "DareFord", name := "daringSet", desc := "(I[I)I" } : Jvm.MethodName)) ∈ lw_tbl := lw_at lw_m4 15 rfl
theorem q822 : (Jvm.Cond.instanceMethod ({ cls := "DareFord", name := "daringSet", desc := "(I[I)I" } : Jvm.MethodName)) ∈ lw_all := lw_g (lw_at lw_m4 16 rfl) rfl
theorem q823 : (Jvm.Cond.code ({ cls := "DareFord", name := "daringSet", desc := "(I[I)I" } : Jvm.MethodName) prog_1_method_65_code (5 : Nat) (Option.some Jvm.ClassFile.FieldType.int)) ∈ lw_all := lw_g (lw_at lw_m4 17 rfl) rfl
theorem q824 : (Jvm.Cond.methodLink "DareFord" (260 : Nat) ({ cls := "DareFord", name := "isNoted", desc := "(II[I)Z" } : Jvm.MethodName)) ∈ lw_all := lw_g (lw_at lw_m4 18 rfl) rfl
theorem q825 : (Jvm.Cond.privateMethod ({ cls := "DareFord", name := "isNoted", desc := "(II[I)Z" } : Jvm.MethodName)) ∈ lw_tbl := lw_at lw_m4 19 rfl
theorem q826 : (Jvm.Cond.instanceMethod ({ cls := "DareFord", name := "isNoted", desc := "(II[I)Z" } : Jvm.MethodName)) ∈ lw_all := lw_g (lw_at lw_m4 20 rfl) rfl
theorem q827 : (Jvm.Cond.code ({ cls := "DareFord", name := "isNoted", desc := "(II[I)Z" } : Jvm.MethodName) prog_1_method_64_code (6 : Nat) (Option.some Jvm.ClassFile.FieldType.boolean)) ∈ lw_all := lw_g (lw_at lw_m4 21 rfl) rfl
theorem q829 : (Jvm.Cond.instanceMethod ({ cls := "DareFord", name := "kinds", desc := "(II)I" } : Jvm.MethodName)) ∈ lw_all := lw_g (lw_at lw_m4 23 rfl) rfl
theorem q830 : (Jvm.Cond.selects "DareFord" ({ cls := "DareFord", name := "kinds", desc := "(II)I" } : Jvm.MethodName) ({ cls := "DareFord", name := "kinds", desc := "(II)I" } : Jvm.MethodName)) ∈ lw_all := lw_g (lw_at lw_m4 24 rfl) rfl
theorem q831 : (Jvm.Cond.code ({ cls := "DareFord", name := "kinds", desc := "(II)I" } : Jvm.MethodName) prog_1_method_67_code (7 : Nat) (Option.some Jvm.ClassFile.FieldType.int)) ∈ lw_all := lw_g (lw_at lw_m4 25 rfl) rfl
theorem q833 : (Jvm.Cond.instanceMethod ({ cls := "DareFord", name := "look", desc := "(II)I" } : Jvm.MethodName)) ∈ lw_all := lw_g (lw_at lw_m4 27 rfl) rfl
theorem q834 : (Jvm.Cond.selects "DareFord" ({ cls := "DareFord", name := "look", desc := "(II)I" } : Jvm.MethodName) ({ cls := "DareFord", name := "look", desc := "(II)I" } : Jvm.MethodName)) ∈ lw_all := lw_g (lw_at lw_m4 28 rfl) rfl
theorem q835 : (Jvm.Cond.code ({ cls := "DareFord", name := "look", desc := "(II)I" } : Jvm.MethodName) prog_1_method_69_code (9 : Nat) (Option.some Jvm.ClassFile.FieldType.int)) ∈ lw_all := lw_g (lw_at lw_m4 29 rfl) rfl
theorem q836 : (Jvm.Cond.methodLink "DareFord" (271 : Nat) ({ cls := "DareFord", name := "alike", desc := "(III)I" } : Jvm.MethodName)) ∈ lw_all := lw_g (lw_at lw_m4 30 rfl) rfl
theorem q837 : (Jvm.Cond.privateMethod ({ cls := "DareFord", name := "alike", desc := "(III)I" } : Jvm.MethodName)) ∈ lw_tbl := lw_at lw_m4 31 rfl
theorem q838 : (Jvm.Cond.instanceMethod ({ cls := "DareFord", name := "alike", desc := "(III)I" } : Jvm.MethodName)) ∈ lw_all := lw_g (lw_at lw_m4 32 rfl) rfl
theorem q839 : (Jvm.Cond.code ({ cls := "DareFord", name := "alike", desc := "(III)I" } : Jvm.MethodName) prog_1_method_68_code (6 : Nat) (Option.some Jvm.ClassFile.FieldType.int)) ∈ lw_all := lw_g (lw_at lw_m4 33 rfl) rfl
theorem q840 : (Jvm.Cond.methodLink "DareFord" (274 : Nat) ({ cls := "java/lang/Math", name := "min", desc := "(II)I" } : Jvm.MethodName)) ∈ lw_all := lw_g (lw_at lw_m4 34 rfl) rfl
theorem q842 : (Jvm.Cond.instanceMethod ({ cls := "DareFord", name := "sets", desc := "(I)I" } : Jvm.MethodName)) ∈ lw_all := lw_g (lw_at lw_m4 36 rfl) rfl
theorem q843 : (Jvm.Cond.selects "DareFord" ({ cls := "DareFord", name := "sets", desc := "(I)I" } : Jvm.MethodName) ({ cls := "DareFord", name := "sets", desc := "(I)I" } : Jvm.MethodName)) ∈ lw_all := lw_g (lw_at lw_m4 37 rfl) rfl
theorem q844 : (Jvm.Cond.code ({ cls := "DareFord", name := "sets", desc := "(I)I" } : Jvm.MethodName) prog_1_method_72_code (3 : Nat) (Option.some Jvm.ClassFile.FieldType.int)) ∈ lw_all := lw_g (lw_at lw_m4 38 rfl) rfl
theorem q845 : (Jvm.Cond.methodLink "DareFord" (292 : Nat) ({ cls := "DareFord", name := "laySets", desc := "(I)V" } : Jvm.MethodName)) ∈ lw_all := lw_g (lw_at lw_m4 39 rfl) rfl
theorem q846 : (Jvm.Cond.privateMethod ({ cls := "DareFord", name := "laySets", desc := "(I)V" } : Jvm.MethodName)) ∈ lw_tbl := lw_at lw_m4 40 rfl
theorem q847 : (Jvm.Cond.instanceMethod ({ cls := "DareFord", name := "laySets", desc := "(I)V" } : Jvm.MethodName)) ∈ lw_all := lw_g (lw_at lw_m4 41 rfl) rfl
theorem q848 : (Jvm.Cond.code ({ cls := "DareFord", name := "laySets", desc := "(I)V" } : Jvm.MethodName) prog_1_method_71_code (3 : Nat) (Option.none : Option Jvm.ClassFile.FieldType)) ∈ lw_all := lw_g (lw_at lw_m4 42 rfl) rfl
theorem q849 : (Jvm.Cond.methodLink "DareFord" (289 : Nat) ({ cls := "DareFord", name := "daringOf", desc := "(I)I" } : Jvm.MethodName)) ∈ lw_all := lw_g (lw_at lw_m4 43 rfl) rfl
theorem q850 : (Jvm.Cond.privateMethod ({ cls := "DareFord", name := "daringOf", desc := "(I)I" } : Jvm.MethodName)) ∈ lw_tbl := lw_at lw_m4 44 rfl
theorem q851 : (Jvm.Cond.instanceMethod ({ cls := "DareFord", name := "daringOf", desc := "(I)I" } : Jvm.MethodName)) ∈ lw_all := lw_g (lw_at lw_m4 45 rfl) rfl
theorem q852 : (Jvm.Cond.code ({ cls := "DareFord", name := "daringOf", desc := "(I)I" } : Jvm.MethodName) prog_1_method_70_code (4 : Nat) (Option.some Jvm.ClassFile.FieldType.int)) ∈ lw_all := lw_g (lw_at lw_m4 46 rfl) rfl
theorem q853 : (Jvm.Cond.methodLink "DareFord" (296 : Nat) ({ cls := "DareFord", name := "fraction", desc := "(JJ)I" } : Jvm.MethodName)) ∈ lw_all := lw_g (lw_at lw_m4 47 rfl) rfl
theorem q854 : (Jvm.Cond.privateMethod ({ cls := "DareFord", name := "fraction", desc := "(JJ)I" } : Jvm.MethodName)) ∈ lw_tbl := lw_at lw_m4 48 rfl
theorem q855 : (Jvm.Cond.instanceMethod ({ cls := "DareFord", name := "fraction", desc := "(JJ)I" } : Jvm.MethodName)) ∈ lw_all := lw_g (lw_at lw_m4 49 rfl) rfl
theorem q856 : (Jvm.Cond.code ({ cls := "DareFord", name := "fraction", desc := "(JJ)I" } : Jvm.MethodName) prog_1_method_7_code (11 : Nat) (Option.some Jvm.ClassFile.FieldType.int)) ∈ lw_all := lw_g (lw_at lw_m4 50 rfl) rfl
theorem q858 : (Jvm.Cond.instanceMethod ({ cls := "DareFord", name := "sure", desc := "(I)I" } : Jvm.MethodName)) ∈ lw_all := lw_g (lw_at lw_m4 52 rfl) rfl
theorem q859 : (Jvm.Cond.selects "DareFord" ({ cls := "DareFord", name := "sure", desc := "(I)I" } : Jvm.MethodName) ({ cls := "DareFord", name := "sure", desc := "(I)I" } : Jvm.MethodName)) ∈ lw_all := lw_g (lw_at lw_m4 53 rfl) rfl
theorem q860 : (Jvm.Cond.code ({ cls := "DareFord", name := "sure", desc := "(I)I" } : Jvm.MethodName) prog_1_method_73_code (3 : Nat) (Option.some Jvm.ClassFile.FieldType.int)) ∈ lw_all := lw_g (lw_at lw_m4 54 rfl) rfl
theorem q862 : (Jvm.Cond.instanceMethod ({ cls := "DareFord", name := "duel", desc := "(III)I" } : Jvm.MethodName)) ∈ lw_all := lw_g (lw_at lw_m4 56 rfl) rfl
theorem q863 : (Jvm.Cond.selects "DareFord" ({ cls := "DareFord", name := "duel", desc := "(III)I" } : Jvm.MethodName) ({ cls := "DareFord", name := "duel", desc := "(III)I" } : Jvm.MethodName)) ∈ lw_all := lw_g (lw_at lw_m4 57 rfl) rfl
theorem q864 : (Jvm.Cond.code ({ cls := "DareFord", name := "duel", desc := "(III)I" } : Jvm.MethodName) prog_1_method_75_code (4 : Nat) (Option.some Jvm.ClassFile.FieldType.int)) ∈ lw_all := lw_g (lw_at lw_m4 58 rfl) rfl
theorem q865 : (Jvm.Cond.methodLink "DareFord" (300 : Nat) ({ cls := "DareFord", name := "plays", desc := "(IIII)I" } : Jvm.MethodName)) ∈ lw_all := lw_g (lw_at lw_m4 59 rfl) rfl
theorem q866 : (Jvm.Cond.privateMethod ({ cls := "DareFord", name := "plays", desc := "(IIII)I" } : Jvm.MethodName)) ∈ lw_tbl := lw_at lw_m4 60 rfl
theorem q867 : (Jvm.Cond.instanceMethod ({ cls := "DareFord", name := "plays", desc := "(IIII)I" } : Jvm.MethodName)) ∈ lw_all := lw_g (lw_at lw_m4 61 rfl) rfl
theorem q868 : (Jvm.Cond.code ({ cls := "DareFord", name := "plays", desc := "(IIII)I" } : Jvm.MethodName) prog_1_method_74_code (10 : Nat) (Option.some Jvm.ClassFile.FieldType.int)) ∈ lw_all := lw_g (lw_at lw_m4 62 rfl) rfl
theorem q870 : (Jvm.Cond.instanceMethod ({ cls := "DareFord", name := "odds", desc := "(II)I" } : Jvm.MethodName)) ∈ lw_all := lw_g (lw_at lw_m4 64 rfl) rfl
theorem q871 : (Jvm.Cond.selects "DareFord" ({ cls := "DareFord", name := "odds", desc := "(II)I" } : Jvm.MethodName) ({ cls := "DareFord", name := "odds", desc := "(II)I" } : Jvm.MethodName)) ∈ lw_all := lw_g (lw_at lw_m4 65 rfl) rfl
theorem q872 : (Jvm.Cond.code ({ cls := "DareFord", name := "odds", desc := "(II)I" } : Jvm.MethodName) prog_1_method_78_code (6 : Nat) (Option.some Jvm.ClassFile.FieldType.int)) ∈ lw_all := lw_g (lw_at lw_m4 66 rfl) rfl
theorem q873 : (Jvm.Cond.methodLink "DareFord" (306 : Nat) ({ cls := "DareFord", name := "partOf", desc := "(II)J" } : Jvm.MethodName)) ∈ lw_all := lw_g (lw_at lw_m4 67 rfl) rfl
theorem q874 : (Jvm.Cond.privateMethod ({ cls := "DareFord", name := "partOf", desc := "(II)J" } : Jvm.MethodName)) ∈ lw_tbl := lw_at lw_m4 68 rfl
theorem q875 : (Jvm.Cond.instanceMethod ({ cls := "DareFord", name := "partOf", desc := "(II)J" } : Jvm.MethodName)) ∈ lw_all := lw_g (lw_at lw_m4 69 rfl) rfl
theorem q876 : (Jvm.Cond.code ({ cls := "DareFord", name := "partOf", desc := "(II)J" } : Jvm.MethodName) prog_1_method_76_code (6 : Nat) (Option.some Jvm.ClassFile.FieldType.long)) ∈ lw_all := lw_g (lw_at lw_m4 70 rfl) rfl
theorem q877 : (Jvm.Cond.methodLink "DareFord" (310 : Nat) ({ cls := "DareFord", name := "whole", desc := "()J" } : Jvm.MethodName)) ∈ lw_all := lw_g (lw_at lw_m4 71 rfl) rfl
theorem q878 : (Jvm.Cond.privateMethod ({ cls := "DareFord", name := "whole", desc := "()J" } : Jvm.MethodName)) ∈ lw_tbl := lw_at lw_m4 72 rfl
theorem q879 : (Jvm.Cond.instanceMethod ({ cls := "DareFord", name := "whole", desc := "()J" } : Jvm.MethodName)) ∈ lw_all := lw_g (lw_at lw_m4 73 rfl) rfl
theorem q880 : (Jvm.Cond.code ({ cls := "DareFord", name := "whole", desc := "()J" } : Jvm.MethodName) prog_1_method_77_code (4 : Nat) (Option.some Jvm.ClassFile.FieldType.long)) ∈ lw_all := lw_g (lw_at lw_m4 74 rfl) rfl
theorem q881 : (Jvm.Cond.constantLong "DareFord" (304 : Nat) (12 : Int64)) ∈ lw_all := lw_g (lw_at lw_m4 75 rfl) rfl
theorem q883 : (Jvm.Cond.instanceMethod ({ cls := "DareFord", name := "mid", desc := "(II)I" } : Jvm.MethodName)) ∈ lw_all := lw_g (lw_at lw_m4 77 rfl) rfl
theorem q884 : (Jvm.Cond.selects "DareFord" ({ cls := "DareFord", name := "mid", desc := "(II)I" } : Jvm.MethodName) ({ cls := "DareFord", name := "mid", desc := "(II)I" } : Jvm.MethodName)) ∈ lw_all := lw_g (lw_at lw_m4 78 rfl) rfl
theorem q885 : (Jvm.Cond.code ({ cls := "DareFord", name := "mid", desc := "(II)I" } : Jvm.MethodName) prog_1_method_80_code (4 : Nat) (Option.some Jvm.ClassFile.FieldType.int)) ∈ lw_all := lw_g (lw_at lw_m4 79 rfl) rfl
theorem q886 : (Jvm.Cond.methodLink "DareFord" (314 : Nat) ({ cls := "DareFord", name := "farSum", desc := "(II)J" } : Jvm.MethodName)) ∈ lw_all := lw_g (lw_at lw_m4 80 rfl) rfl
theorem q887 : (Jvm.Cond.privateMethod ({ cls := "DareFord", name := "farSum", desc := "(II)J" } : Jvm.MethodName)) ∈ lw_tbl := lw_at lw_m4 81 rfl
theorem q888 : (Jvm.Cond.instanceMethod ({ cls := "DareFord", name := "farSum", desc := "(II)J" } : Jvm.MethodName)) ∈ lw_all := lw_g (lw_at lw_m4 82 rfl) rfl
theorem q889 : (Jvm.Cond.code ({ cls := "DareFord", name := "farSum", desc := "(II)J" } : Jvm.MethodName) prog_1_method_79_code (8 : Nat) (Option.some Jvm.ClassFile.FieldType.long)) ∈ lw_all := lw_g (lw_at lw_m4 83 rfl) rfl
theorem q891 : (Jvm.Cond.instanceMethod ({ cls := "DareFord", name := "fair", desc := "(I)I" } : Jvm.MethodName)) ∈ lw_all := lw_g (lw_at lw_m4 85 rfl) rfl
theorem q892 : (Jvm.Cond.selects "DareFord" ({ cls := "DareFord", name := "fair", desc := "(I)I" } : Jvm.MethodName) ({ cls := "DareFord", name := "fair", desc := "(I)I" } : Jvm.MethodName)) ∈ lw_all := lw_g (lw_at lw_m4 86 rfl) rfl
theorem q893 : (Jvm.Cond.code ({ cls := "DareFord", name := "fair", desc := "(I)I" } : Jvm.MethodName) prog_1_method_81_code (9 : Nat) (Option.some Jvm.ClassFile.FieldType.int)) ∈ lw_all := lw_g (lw_at lw_m4 87 rfl) rfl
theorem q894 : (Jvm.Cond.methodLink "DareFord" (317 : Nat) ({ cls := "java/lang/Math", name := "min", desc := "(JJ)J" } : Jvm.MethodName)) ∈ lw_all := lw_g (lw_at lw_m4 88 rfl) rfl
theorem q898 : (Jvm.Cond.instanceMethod ({ cls := "DareFord", name := "lots", desc := "(II)I" } : Jvm.MethodName)) ∈ lw_all := lw_g (lw_at lw_m4 92 rfl) rfl
theorem q899 : (Jvm.Cond.selects "DareFord" ({ cls := "DareFord", name := "lots", desc := "(II)I" } : Jvm.MethodName) ({ cls := "DareFord", name := "lots", desc := "(II)I" } : Jvm.MethodName)) ∈ lw_all := lw_g (lw_at lw_m4 93 rfl) rfl
theorem q900 : (Jvm.Cond.code ({ cls := "DareFord", name := "lots", desc := "(II)I" } : Jvm.MethodName) prog_1_method_83_code (7 : Nat) (Option.some Jvm.ClassFile.FieldType.int)) ∈ lw_all := lw_g (lw_at lw_m4 94 rfl) rfl
theorem q901 : (Jvm.Cond.constant "DareFord" (324 : Nat) (2147483646 : Int32)) ∈ lw_all := lw_g (lw_at lw_m4 95 rfl) rfl
theorem q902 : (Jvm.Cond.constantLong "DareFord" (325 : Nat) (48271 : Int64)) ∈ lw_all := lw_g (lw_at lw_m4 96 rfl) rfl
theorem q903 : (Jvm.Cond.constantLong "DareFord" (327 : Nat) (2147483647 : Int64)) ∈ lw_all := lw_g (lw_at lw_m4 97 rfl) rfl
theorem q904 : (Jvm.Cond.constantLong "DareFord" (329 : Nat) (8 : Int64)) ∈ lw_all := lw_g (lw_at lw_m4 98 rfl) rfl
theorem q905 : (Jvm.Cond.constantLong "DareFord" (331 : Nat) (64 : Int64)) ∈ lw_all := lw_g (lw_at lw_m4 99 rfl) rfl
theorem q906 : (Jvm.Cond.methodLink "DareFord" (333 : Nat) ({ cls := "DareFord", name := "does", desc := "(IIJ)V" } : Jvm.MethodName)) ∈ lw_all := lw_g (lw_at lw_m4 100 rfl) rfl
theorem q907 : (Jvm.Cond.privateMethod ({ cls := "DareFord", name := "does", desc := "(IIJ)V" } : Jvm.MethodName)) ∈ lw_tbl := lw_at lw_m4 101 rfl
theorem q908 : (Jvm.Cond.instanceMethod ({ cls := "DareFord", name := "does", desc := "(IIJ)V" } : Jvm.MethodName)) ∈ lw_all := lw_g (lw_at lw_m4 102 rfl) rfl
theorem q909 : (Jvm.Cond.code ({ cls := "DareFord", name := "does", desc := "(IIJ)V" } : Jvm.MethodName) prog_1_method_82_code (6 : Nat) (Option.none : Option Jvm.ClassFile.FieldType)) ∈ lw_all := lw_g (lw_at lw_m4 103 rfl) rfl
theorem q910 : (Jvm.Cond.constantLong "DareFord" (320 : Nat) (5 : Int64)) ∈ lw_all := lw_g (lw_at lw_m4 104 rfl) rfl
theorem q911 : (Jvm.Cond.constantLong "DareFord" (322 : Nat) (10 : Int64)) ∈ lw_all := lw_g (lw_at lw_m4 105 rfl) rfl
theorem q913 : (Jvm.Cond.instanceMethod ({ cls := "DareFord", name := "count", desc := "(I)I" } : Jvm.MethodName)) ∈ lw_all := lw_g (lw_at lw_m4 107 rfl) rfl
theorem q914 : (Jvm.Cond.selects "DareFord" ({ cls := "DareFord", name := "count", desc := "(I)I" } : Jvm.MethodName) ({ cls := "DareFord", name := "count", desc := "(I)I" } : Jvm.MethodName)) ∈ lw_all := lw_g (lw_at lw_m4 108 rfl) rfl
theorem q915 : (Jvm.Cond.code ({ cls := "DareFord", name := "count", desc := "(I)I" } : Jvm.MethodName) prog_1_method_85_code (2 : Nat) (Option.some Jvm.ClassFile.FieldType.int)) ∈ lw_all := lw_g (lw_at lw_m4 109 rfl) rfl
theorem q916 : (Jvm.Cond.methodLink "DareFord" (337 : Nat) ({ cls := "DareFord", name := "counted", desc := "(I)I" } : Jvm.MethodName)) ∈ lw_all := lw_g (lw_at lw_m4 110 rfl) rfl
theorem q917 : (Jvm.Cond.privateMethod ({ cls := "DareFord", name := "counted", desc := "(I)I" } : Jvm.MethodName)) ∈ lw_tbl := lw_at lw_m4 111 rfl
theorem q918 : (Jvm.Cond.instanceMethod ({ cls := "DareFord", name := "counted", desc := "(I)I" } : Jvm.MethodName)) ∈ lw_all := lw_g (lw_at lw_m4 112 rfl) rfl
theorem q919 : (Jvm.Cond.code ({ cls := "DareFord", name := "counted", desc := "(I)I" } : Jvm.MethodName) prog_1_method_84_code (4 : Nat) (Option.some Jvm.ClassFile.FieldType.int)) ∈ lw_all := lw_g (lw_at lw_m4 113 rfl) rfl
theorem q921 : (Jvm.Cond.instanceMethod ({ cls := "DareFord", name := "finding", desc := "()I" } : Jvm.MethodName)) ∈ lw_all := lw_g (lw_at lw_m4 115 rfl) rfl
theorem q922 : (Jvm.Cond.selects "DareFord" ({ cls := "DareFord", name := "finding", desc := "()I" } : Jvm.MethodName) ({ cls := "DareFord", name := "finding", desc := "()I" } : Jvm.MethodName)) ∈ lw_all := lw_g (lw_at lw_m4 116 rfl) rfl
theorem q923 : (Jvm.Cond.code ({ cls := "DareFord", name := "finding", desc := "()I" } : Jvm.MethodName) prog_1_method_86_code (1 : Nat) (Option.some Jvm.ClassFile.FieldType.int)) ∈ lw_all := lw_g (lw_at lw_m4 117 rfl) rfl
theorem q925 : (Jvm.Cond.instanceMethod ({ cls := "DareFord", name := "findings", desc := "(I)I" } : Jvm.MethodName)) ∈ lw_all := lw_g (lw_at lw_m4 119 rfl) rfl
theorem q926 : (Jvm.Cond.selects "DareFord" ({ cls := "DareFord", name := "findings", desc := "(I)I" } : Jvm.MethodName) ({ cls := "DareFord", name := "findings", desc := "(I)I" } : Jvm.MethodName)) ∈ lw_all := lw_g (lw_at lw_m4 120 rfl) rfl
theorem q927 : (Jvm.Cond.code ({ cls := "DareFord", name := "findings", desc := "(I)I" } : Jvm.MethodName) prog_1_method_87_code (2 : Nat) (Option.some Jvm.ClassFile.FieldType.int)) ∈ lw_all := lw_g (lw_at lw_m4 121 rfl) rfl
theorem q929 : (Jvm.Cond.instanceMethod ({ cls := "DareFord", name := "digest", desc := "()J" } : Jvm.MethodName)) ∈ lw_all := lw_g (lw_at lw_m4 123 rfl) rfl
theorem q930 : (Jvm.Cond.selects "DareFord" ({ cls := "DareFord", name := "digest", desc := "()J" } : Jvm.MethodName) ({ cls := "DareFord", name := "digest", desc := "()J" } : Jvm.MethodName)) ∈ lw_all := lw_g (lw_at lw_m4 124 rfl) rfl
theorem q931 : (Jvm.Cond.code ({ cls := "DareFord", name := "digest", desc := "()J" } : Jvm.MethodName) prog_1_method_90_code (4 : Nat) (Option.some Jvm.ClassFile.FieldType.long)) ∈ lw_all := lw_g (lw_at lw_m4 125 rfl) rfl
theorem q932 : (Jvm.Cond.constantLong "DareFord" (351 : Nat) (17 : Int64)) ∈ lw_all := lw_g (lw_at lw_m4 126 rfl) rfl
theorem q933 : (Jvm.Cond.methodLink "DareFord" (345 : Nat) ({ cls := "DareFord", name := "add", desc := "(J)V" } : Jvm.MethodName)) ∈ lw_all := lw_g (lw_at lw_m4 127 rfl) rfl
theorem q934 : (Jvm.Cond.privateMethod ({ cls := "DareFord", name := "add", desc := "(J)V" } : Jvm.MethodName)) ∈ lw_tbl := lw_at lw_m4 128 rfl
theorem q935 : (Jvm.Cond.instanceMethod ({ cls := "DareFord", name := "add", desc := "(J)V" } : Jvm.MethodName)) ∈ lw_all := lw_g (lw_at lw_m4 129 rfl) rfl
theorem q936 : (Jvm.Cond.code ({ cls := "DareFord", name := "add", desc := "(J)V" } : Jvm.MethodName) prog_1_method_88_code (3 : Nat) (Option.none : Option Jvm.ClassFile.FieldType)) ∈ lw_all := lw_g (lw_at lw_m4 130 rfl) rfl
theorem q937 : (Jvm.Cond.constantLong "DareFord" (340 : Nat) (31 : Int64)) ∈ lw_all := lw_g (lw_at lw_m4 131 rfl) rfl
theorem q938 : (Jvm.Cond.methodLink "DareFord" (353 : Nat) ({ cls := "DareFord", name := "addRiver", desc := "()V" } : Jvm.MethodName)) ∈ lw_all := lw_g (lw_at lw_m4 132 rfl) rfl
theorem q939 : (Jvm.Cond.privateMethod ({ cls := "DareFord", name := "addRiver", desc := "()V" } : Jvm.MethodName)) ∈ lw_tbl := lw_at lw_m4 133 rfl
theorem q940 : (Jvm.Cond.instanceMethod ({ cls := "DareFord", name := "addRiver", desc := "()V" } : Jvm.MethodName)) ∈ lw_all := lw_g (lw_at lw_m4 134 rfl) rfl
theorem q941 : (Jvm.Cond.code ({ cls := "DareFord", name := "addRiver", desc := "()V" } : Jvm.MethodName) prog_1_method_89_code (3 : Nat) (Option.none : Option Jvm.ClassFile.FieldType)) ∈ lw_all := lw_g (lw_at lw_m4 135 rfl) rfl
theorem q942 : (Jvm.Cond.constantLong "DareFord" (349 : Nat) (-1 : Int64)) ∈ lw_all := lw_g (lw_at lw_m4 136 rfl) rfl
theorem in_X0 : ∀ w ∈ wsX00, w ∈ lw_all := lw_in wsX00 [155, 157, 159, 161, 163, 165, 167, 169, 171, 173, 175, 177, 179, 181, 183, 185, 187, 189, 191, 193, 195, 197, 199, 201, 203] (by decide +kernel) (by decide +kernel)
