/-! DareFord$Person -/
set_option maxRecDepth 100000
def RX2 : String := "DareFord$Person"
def TX2 : u_T := fun k => match k with
  | 0 => ("DareFord$Person", "number", "I", true)
  | _ => ("DareFord$Person", "this$0", "LDareFord;", true)
def tyX2 : Nat → FieldType := fun k => match k with
  | 0 => .int
  | _ => .object "DareFord"
abbrev wsX20 : List Cond := u_ws RX2 TX2 2
theorem nmX2 : ∀ a, a < 2 → ∀ b, b < 2 → a ≠ b → (TX2 a).2.1 ≠ (TX2 b).2.1 := by decide +kernel
theorem tyX2_ok : ∀ k, k < 2 → parseFieldDescriptor (TX2 k).2.2.1 = some (tyX2 k) := by decide +kernel
abbrev cX2_init : ByteArray := prog_7_method_1_code
def yX2_init : MethodName := ⟨RX2, "<init>", "(LDareFord;I)V"⟩
def dkwX2_init_0 : List UInt8 := [42, 43, 181, 0, 1, 42, 183, 0, 7, 42, 28, 181, 0, 13, 177]
abbrev dktX2_init_0 : List UInt8 := dkwX2_init_0 ++ []
theorem dksX2_init_0 : cX2_init.data.toList.drop 0 = dktX2_init_0 := by decide +kernel
theorem dX2_init_0 : decode cX2_init 0 = .ok (.aload_n 0, 1) := dk_42 (dk_at dksX2_init_0 0 rfl rfl)
theorem dX2_init_1 : decode cX2_init 1 = .ok (.aload_n 1, 1) := dk_43 (dk_at dksX2_init_0 1 rfl rfl)
theorem dX2_init_2 : decode cX2_init 2 = .ok (.putfield 1, 3) := dk_181 0 1 (dk_at dksX2_init_0 2 rfl rfl)
theorem dX2_init_5 : decode cX2_init 5 = .ok (.aload_n 0, 1) := dk_42 (dk_at dksX2_init_0 5 rfl rfl)
theorem dX2_init_6 : decode cX2_init 6 = .ok (.invokespecial 7, 3) := dk_183 0 7 (dk_at dksX2_init_0 6 rfl rfl)
theorem dX2_init_9 : decode cX2_init 9 = .ok (.aload_n 0, 1) := dk_42 (dk_at dksX2_init_0 9 rfl rfl)
theorem dX2_init_10 : decode cX2_init 10 = .ok (.iload_n 2, 1) := dk_28 (dk_at dksX2_init_0 10 rfl rfl)
theorem dX2_init_11 : decode cX2_init 11 = .ok (.putfield 13, 3) := dk_181 0 13 (dk_at dksX2_init_0 11 rfl rfl)
theorem dX2_init_14 : decode cX2_init 14 = .ok (.return_, 1) := dk_177 (dk_at dksX2_init_0 14 rfl rfl)
abbrev cX2_kind : ByteArray := prog_7_method_2_code
def yX2_kind : MethodName := ⟨RX2, "kind", "()I"⟩
theorem dX2_kind_0 : decode cX2_kind 0 = .ok (.iconst 0, 1) := by decide +kernel
theorem dX2_kind_1 : decode cX2_kind 1 = .ok (.ireturn, 1) := by decide +kernel
abbrev cX2_dares : ByteArray := prog_7_method_3_code
def yX2_dares : MethodName := ⟨RX2, "dares", "(III)I"⟩
theorem dX2_dares_0 : decode cX2_dares 0 = .ok (.iload_n 1, 1) := by decide +kernel
theorem dX2_dares_1 : decode cX2_dares 1 = .ok (.ireturn, 1) := by decide +kernel
theorem q99 : (Jvm.Cond.initialized "DareFord$Person") ∈ lw_all := lw_g (lw_at lw_m1 13 rfl) rfl
theorem q452 : (Jvm.Cond.instantiable "DareFord$Person" (2 : Nat)) ∈ lw_all := lw_g (lw_at lw_m2 126 rfl) rfl
theorem q454 : (Jvm.Cond.instanceMethod ({ cls := "DareFord$Person", name := "<init>", desc := "(LDareFord;I)V" } : Jvm.MethodName)) ∈ lw_all := lw_g (lw_at lw_m2 128 rfl) rfl
theorem q455 : (Jvm.Cond.code ({ cls := "DareFord$Person", name := "<init>", desc := "(LDareFord;I)V" } : Jvm.MethodName) prog_7_method_1_code (3 : Nat) (Option.none : Option Jvm.ClassFile.FieldType)) ∈ lw_all := lw_g (lw_at lw_m2 129 rfl) rfl
theorem q456 : (Jvm.Cond.methodLink "DareFord$Person" (7 : Nat) ({ cls := "java/lang/Object", name := "<init>", desc := "()V" } : Jvm.MethodName)) ∈ lw_all := lw_g (lw_at lw_m2 130 rfl) rfl
theorem q457 : (Jvm.Cond.fieldLink "DareFord$Person" (13 : Nat) "DareFord$Person" "number" "I") ∈ lw_all := lw_g (lw_at lw_m2 131 rfl) rfl
theorem q468 : (Jvm.Cond.fieldLink "DareFord$Person" (1 : Nat) "DareFord$Person" "this$0" "LDareFord;") ∈ lw_all := lw_g (lw_at lw_m2 142 rfl) rfl
theorem q469 : (Jvm.Cond.laysFinal "DareFord$Person" "DareFord$Person" "number" "I") ∈ lw_all := lw_g (lw_at lw_m2 143 rfl) rfl
theorem q470 : (Jvm.Cond.soleField "DareFord$Person" "number") ∈ lw_all := lw_g (lw_at lw_m2 144 rfl) rfl
theorem q471 : (Jvm.Cond.laysFinal "DareFord$Person" "DareFord$Person" "this$0" "LDareFord;") ∈ lw_all := lw_g (lw_at lw_m2 145 rfl) rfl
theorem q472 : (Jvm.Cond.soleField "DareFord$Person" "this$0") ∈ lw_all := lw_g (lw_at lw_m2 146 rfl) rfl
theorem q473 : (Jvm.Cond.superclass "DareFord$Person" "java/lang/Object") ∈ lw_all := lw_g (lw_at lw_m2 147 rfl) rfl
theorem q549 : (Jvm.Cond.instanceMethod ({ cls := "DareFord$Person", name := "kind", desc := "()I" } : Jvm.MethodName)) ∈ lw_all := lw_g (lw_at lw_m2 223 rfl) rfl
theorem q550 : (Jvm.Cond.selects "DareFord$Person" ({ cls := "DareFord$Person", name := "kind", desc := "()I" } : Jvm.MethodName) ({ cls := "DareFord$Person", name := "kind", desc := "()I" } : Jvm.MethodName)) ∈ lw_all := lw_g (lw_at lw_m2 224 rfl) rfl
theorem q551 : (Jvm.Cond.sameMethod "DareFord$Person" "DareFord$Person" "kind" "()I") ∈ lw_all := lw_g (lw_at lw_m2 225 rfl) rfl
theorem q559 : (Jvm.Cond.code ({ cls := "DareFord$Person", name := "kind", desc := "()I" } : Jvm.MethodName) prog_7_method_2_code (1 : Nat) (Option.some Jvm.ClassFile.FieldType.int)) ∈ lw_all := lw_g (lw_at lw_m2 233 rfl) rfl
theorem q599 : (Jvm.Cond.declares ({ cls := "DareFord$Person", name := "dares", desc := "(III)I" } : Jvm.MethodName)) ∈ lw_tbl := lw_at lw_m3 33 rfl
theorem q600 : (Jvm.Cond.instanceMethod ({ cls := "DareFord$Person", name := "dares", desc := "(III)I" } : Jvm.MethodName)) ∈ lw_all := lw_g (lw_at lw_m3 34 rfl) rfl
theorem q601 : (Jvm.Cond.code ({ cls := "DareFord$Person", name := "dares", desc := "(III)I" } : Jvm.MethodName) prog_7_method_3_code (4 : Nat) (Option.some Jvm.ClassFile.FieldType.int)) ∈ lw_all := lw_g (lw_at lw_m3 35 rfl) rfl
theorem q608 : (Jvm.Cond.publicMethod ({ cls := "DareFord$Person", name := "dares", desc := "(III)I" } : Jvm.MethodName)) ∈ lw_tbl := lw_at lw_m3 42 rfl
theorem q623 : (Jvm.Cond.castable "DareFord$Person" "DareFord$Daring") ∈ lw_tbl := lw_at lw_m3 57 rfl
theorem q624 : (Jvm.Cond.selects "DareFord$Person" ({ cls := "DareFord$Daring", name := "dares", desc := "(III)I" } : Jvm.MethodName) ({ cls := "DareFord$Person", name := "dares", desc := "(III)I" } : Jvm.MethodName)) ∈ lw_all := lw_g (lw_at lw_m3 58 rfl) rfl
theorem q625 : (Jvm.Cond.unhidden "DareFord$Person" "dares" "(III)I") ∈ lw_tbl := lw_at lw_m3 59 rfl
theorem q731 : (Jvm.Cond.unhidden "DareFord$Person" "fades" "()I") ∈ lw_tbl := lw_at lw_m3 165 rfl
theorem q1417 : (Jvm.Cond.sameMethod "DareFord$Person" "DareFord$Person" "dares" "(III)I") ∈ lw_all := lw_g (lw_at lw_m6 131 rfl) rfl
theorem in_X2 : ∀ w ∈ wsX20, w ∈ lw_all := lw_in wsX20 [469, 471] (by decide +kernel) (by decide +kernel)

/-! DareFord$Drunk -/
set_option maxRecDepth 100000
def RX3 : String := "DareFord$Drunk"
def TX3 : u_T := fun k => match k with
  | 0 => ("DareFord$Person", "number", "I", true)
  | 1 => ("DareFord$Person", "this$0", "LDareFord;", true)
  | _ => ("DareFord$Drunk", "this$0", "LDareFord;", true)
def tyX3 : Nat → FieldType := fun k => match k with
  | 0 => .int
  | 1 => .object "DareFord"
  | _ => .object "DareFord"
abbrev wsX30 : List Cond := u_ws RX3 TX3 3
-- two fields of one name: no nmX3
theorem tyX3_ok : ∀ k, k < 3 → parseFieldDescriptor (TX3 k).2.2.1 = some (tyX3 k) := by decide +kernel
abbrev cX3_init : ByteArray := prog_5_method_1_code
def yX3_init : MethodName := ⟨RX3, "<init>", "(LDareFord;I)V"⟩
def dkwX3_init_0 : List UInt8 := [42, 43, 181, 0, 3, 42, 43, 28, 183, 0, 9, 177]
abbrev dktX3_init_0 : List UInt8 := dkwX3_init_0 ++ []
theorem dksX3_init_0 : cX3_init.data.toList.drop 0 = dktX3_init_0 := by decide +kernel
theorem dX3_init_0 : decode cX3_init 0 = .ok (.aload_n 0, 1) := dk_42 (dk_at dksX3_init_0 0 rfl rfl)
theorem dX3_init_1 : decode cX3_init 1 = .ok (.aload_n 1, 1) := dk_43 (dk_at dksX3_init_0 1 rfl rfl)
theorem dX3_init_2 : decode cX3_init 2 = .ok (.putfield 3, 3) := dk_181 0 3 (dk_at dksX3_init_0 2 rfl rfl)
theorem dX3_init_5 : decode cX3_init 5 = .ok (.aload_n 0, 1) := dk_42 (dk_at dksX3_init_0 5 rfl rfl)
theorem dX3_init_6 : decode cX3_init 6 = .ok (.aload_n 1, 1) := dk_43 (dk_at dksX3_init_0 6 rfl rfl)
theorem dX3_init_7 : decode cX3_init 7 = .ok (.iload_n 2, 1) := dk_28 (dk_at dksX3_init_0 7 rfl rfl)
theorem dX3_init_8 : decode cX3_init 8 = .ok (.invokespecial 9, 3) := dk_183 0 9 (dk_at dksX3_init_0 8 rfl rfl)
theorem dX3_init_11 : decode cX3_init 11 = .ok (.return_, 1) := dk_177 (dk_at dksX3_init_0 11 rfl rfl)
abbrev cX3_kind : ByteArray := prog_5_method_2_code
def yX3_kind : MethodName := ⟨RX3, "kind", "()I"⟩
def dkwX3_kind_0 : List UInt8 := [42, 183, 0, 15, 4, 96, 172]
abbrev dktX3_kind_0 : List UInt8 := dkwX3_kind_0 ++ []
theorem dksX3_kind_0 : cX3_kind.data.toList.drop 0 = dktX3_kind_0 := by decide +kernel
theorem dX3_kind_0 : decode cX3_kind 0 = .ok (.aload_n 0, 1) := dk_42 (dk_at dksX3_kind_0 0 rfl rfl)
theorem dX3_kind_1 : decode cX3_kind 1 = .ok (.invokespecial 15, 3) := dk_183 0 15 (dk_at dksX3_kind_0 1 rfl rfl)
theorem dX3_kind_4 : decode cX3_kind 4 = .ok (.iconst 1, 1) := dk_4 (dk_at dksX3_kind_0 4 rfl rfl)
theorem dX3_kind_5 : decode cX3_kind 5 = .ok (.iadd, 1) := dk_96 (dk_at dksX3_kind_0 5 rfl rfl)
theorem dX3_kind_6 : decode cX3_kind 6 = .ok (.ireturn, 1) := dk_172 (dk_at dksX3_kind_0 6 rfl rfl)
abbrev cX3_dares : ByteArray := prog_5_method_3_code
def yX3_dares : MethodName := ⟨RX3, "dares", "(III)I"⟩
def dkwX3_dares_1 : List UInt8 := [172]
abbrev dktX3_dares_1 : List UInt8 := dkwX3_dares_1 ++ []
def dkwX3_dares_0 : List UInt8 := [42, 27, 28, 29, 183, 0, 19, 54, 4, 28, 5, 112, 154, 0, 10, 5, 21, 4, 104, 167, 0, 5, 21, 4]
abbrev dktX3_dares_0 : List UInt8 := dkwX3_dares_0 ++ dktX3_dares_1
theorem dksX3_dares_0 : cX3_dares.data.toList.drop 0 = dktX3_dares_0 := by decide +kernel
theorem dksX3_dares_1 : cX3_dares.data.toList.drop 24 = dktX3_dares_1 := dk_seg dksX3_dares_0 24 rfl rfl
theorem dX3_dares_0 : decode cX3_dares 0 = .ok (.aload_n 0, 1) := dk_42 (dk_at dksX3_dares_0 0 rfl rfl)
theorem dX3_dares_1 : decode cX3_dares 1 = .ok (.iload_n 1, 1) := dk_27 (dk_at dksX3_dares_0 1 rfl rfl)
theorem dX3_dares_2 : decode cX3_dares 2 = .ok (.iload_n 2, 1) := dk_28 (dk_at dksX3_dares_0 2 rfl rfl)
theorem dX3_dares_3 : decode cX3_dares 3 = .ok (.iload_n 3, 1) := dk_29 (dk_at dksX3_dares_0 3 rfl rfl)
theorem dX3_dares_4 : decode cX3_dares 4 = .ok (.invokespecial 19, 3) := dk_183 0 19 (dk_at dksX3_dares_0 4 rfl rfl)
theorem dX3_dares_7 : decode cX3_dares 7 = .ok (.istore 4, 2) := dk_54 4 (dk_at dksX3_dares_0 7 rfl rfl)
theorem dX3_dares_9 : decode cX3_dares 9 = .ok (.iload_n 2, 1) := dk_28 (dk_at dksX3_dares_0 9 rfl rfl)
theorem dX3_dares_10 : decode cX3_dares 10 = .ok (.iconst 2, 1) := dk_5 (dk_at dksX3_dares_0 10 rfl rfl)
theorem dX3_dares_11 : decode cX3_dares 11 = .ok (.irem, 1) := dk_112 (dk_at dksX3_dares_0 11 rfl rfl)
theorem dX3_dares_12 : decode cX3_dares 12 = .ok (.ifCond .ne 10, 3) := dk_154 0 10 (dk_at dksX3_dares_0 12 rfl rfl)
theorem dX3_dares_15 : decode cX3_dares 15 = .ok (.iconst 2, 1) := dk_5 (dk_at dksX3_dares_0 15 rfl rfl)
theorem dX3_dares_16 : decode cX3_dares 16 = .ok (.iload 4, 2) := dk_21 4 (dk_at dksX3_dares_0 16 rfl rfl)
theorem dX3_dares_18 : decode cX3_dares 18 = .ok (.imul, 1) := dk_104 (dk_at dksX3_dares_0 18 rfl rfl)
theorem dX3_dares_19 : decode cX3_dares 19 = .ok (.goto 5, 3) := dk_167 0 5 (dk_at dksX3_dares_0 19 rfl rfl)
theorem dX3_dares_22 : decode cX3_dares 22 = .ok (.iload 4, 2) := dk_21 4 (dk_at dksX3_dares_0 22 rfl rfl)
theorem dX3_dares_24 : decode cX3_dares 24 = .ok (.ireturn, 1) := dk_172 (dk_at dksX3_dares_1 0 rfl rfl)
abbrev cX3_mark : ByteArray := prog_5_method_4_code
def yX3_mark : MethodName := ⟨RX3, "mark", "()I"⟩
def dkwX3_mark_1 : List UInt8 := [4, 96, 42, 180, 0, 3, 3, 42, 180, 0, 27, 182, 0, 31, 182, 0, 35, 172]
abbrev dktX3_mark_1 : List UInt8 := dkwX3_mark_1 ++ []
def dkwX3_mark_0 : List UInt8 := [42, 42, 180, 0, 3, 180, 0, 23, 5, 42, 180, 0, 27, 96, 46, 42, 180, 0, 3, 180, 0, 23, 3, 46]
abbrev dktX3_mark_0 : List UInt8 := dkwX3_mark_0 ++ dktX3_mark_1
theorem dksX3_mark_0 : cX3_mark.data.toList.drop 0 = dktX3_mark_0 := by decide +kernel
theorem dksX3_mark_1 : cX3_mark.data.toList.drop 24 = dktX3_mark_1 := dk_seg dksX3_mark_0 24 rfl rfl
theorem dX3_mark_0 : decode cX3_mark 0 = .ok (.aload_n 0, 1) := dk_42 (dk_at dksX3_mark_0 0 rfl rfl)
theorem dX3_mark_1 : decode cX3_mark 1 = .ok (.aload_n 0, 1) := dk_42 (dk_at dksX3_mark_0 1 rfl rfl)
theorem dX3_mark_2 : decode cX3_mark 2 = .ok (.getfield 3, 3) := dk_180 0 3 (dk_at dksX3_mark_0 2 rfl rfl)
theorem dX3_mark_5 : decode cX3_mark 5 = .ok (.getfield 23, 3) := dk_180 0 23 (dk_at dksX3_mark_0 5 rfl rfl)
theorem dX3_mark_8 : decode cX3_mark 8 = .ok (.iconst 2, 1) := dk_5 (dk_at dksX3_mark_0 8 rfl rfl)
theorem dX3_mark_9 : decode cX3_mark 9 = .ok (.aload_n 0, 1) := dk_42 (dk_at dksX3_mark_0 9 rfl rfl)
theorem dX3_mark_10 : decode cX3_mark 10 = .ok (.getfield 27, 3) := dk_180 0 27 (dk_at dksX3_mark_0 10 rfl rfl)
theorem dX3_mark_13 : decode cX3_mark 13 = .ok (.iadd, 1) := dk_96 (dk_at dksX3_mark_0 13 rfl rfl)
theorem dX3_mark_14 : decode cX3_mark 14 = .ok (.iaload, 1) := dk_46 (dk_at dksX3_mark_0 14 rfl rfl)
theorem dX3_mark_15 : decode cX3_mark 15 = .ok (.aload_n 0, 1) := dk_42 (dk_at dksX3_mark_0 15 rfl rfl)
theorem dX3_mark_16 : decode cX3_mark 16 = .ok (.getfield 3, 3) := dk_180 0 3 (dk_at dksX3_mark_0 16 rfl rfl)
theorem dX3_mark_19 : decode cX3_mark 19 = .ok (.getfield 23, 3) := dk_180 0 23 (dk_at dksX3_mark_0 19 rfl rfl)
theorem dX3_mark_22 : decode cX3_mark 22 = .ok (.iconst 0, 1) := dk_3 (dk_at dksX3_mark_0 22 rfl rfl)
theorem dX3_mark_23 : decode cX3_mark 23 = .ok (.iaload, 1) := dk_46 (dk_at dksX3_mark_0 23 rfl rfl)
theorem dX3_mark_24 : decode cX3_mark 24 = .ok (.iconst 1, 1) := dk_4 (dk_at dksX3_mark_1 0 rfl rfl)
theorem dX3_mark_25 : decode cX3_mark 25 = .ok (.iadd, 1) := dk_96 (dk_at dksX3_mark_1 1 rfl rfl)
theorem dX3_mark_26 : decode cX3_mark 26 = .ok (.aload_n 0, 1) := dk_42 (dk_at dksX3_mark_1 2 rfl rfl)
theorem dX3_mark_27 : decode cX3_mark 27 = .ok (.getfield 3, 3) := dk_180 0 3 (dk_at dksX3_mark_1 3 rfl rfl)
theorem dX3_mark_30 : decode cX3_mark 30 = .ok (.iconst 0, 1) := dk_3 (dk_at dksX3_mark_1 6 rfl rfl)
theorem dX3_mark_31 : decode cX3_mark 31 = .ok (.aload_n 0, 1) := dk_42 (dk_at dksX3_mark_1 7 rfl rfl)
theorem dX3_mark_32 : decode cX3_mark 32 = .ok (.getfield 27, 3) := dk_180 0 27 (dk_at dksX3_mark_1 8 rfl rfl)
theorem dX3_mark_35 : decode cX3_mark 35 = .ok (.invokevirtual 31, 3) := dk_182 0 31 (dk_at dksX3_mark_1 11 rfl rfl)
theorem dX3_mark_38 : decode cX3_mark 38 = .ok (.invokevirtual 35, 3) := dk_182 0 35 (dk_at dksX3_mark_1 14 rfl rfl)
theorem dX3_mark_41 : decode cX3_mark 41 = .ok (.ireturn, 1) := dk_172 (dk_at dksX3_mark_1 17 rfl rfl)
theorem q100 : (Jvm.Cond.initialized "DareFord$Drunk") ∈ lw_all := lw_g (lw_at lw_m1 14 rfl) rfl
theorem q135 : (Jvm.Cond.fieldLinkNest "DareFord$Drunk" (23 : Nat) "DareFord" "at" "[I" "DareFord") ∈ lw_tbl := lw_at lw_m1 49 rfl
theorem q458 : (Jvm.Cond.fieldLink "DareFord$Drunk" (27 : Nat) "DareFord$Drunk" "number" "I") ∈ lw_all := lw_g (lw_at lw_m2 132 rfl) rfl
theorem q459 : (Jvm.Cond.sameField "DareFord$Drunk" "DareFord$Person" "number" "I") ∈ lw_all := lw_g (lw_at lw_m2 133 rfl) rfl
theorem q475 : (Jvm.Cond.instantiable "DareFord$Drunk" (3 : Nat)) ∈ lw_all := lw_g (lw_at lw_m2 149 rfl) rfl
theorem q477 : (Jvm.Cond.instanceMethod ({ cls := "DareFord$Drunk", name := "<init>", desc := "(LDareFord;I)V" } : Jvm.MethodName)) ∈ lw_all := lw_g (lw_at lw_m2 151 rfl) rfl
theorem q478 : (Jvm.Cond.code ({ cls := "DareFord$Drunk", name := "<init>", desc := "(LDareFord;I)V" } : Jvm.MethodName) prog_5_method_1_code (3 : Nat) (Option.none : Option Jvm.ClassFile.FieldType)) ∈ lw_all := lw_g (lw_at lw_m2 152 rfl) rfl
theorem q479 : (Jvm.Cond.methodLink "DareFord$Drunk" (9 : Nat) ({ cls := "DareFord$Person", name := "<init>", desc := "(LDareFord;I)V" } : Jvm.MethodName)) ∈ lw_all := lw_g (lw_at lw_m2 153 rfl) rfl
theorem q480 : (Jvm.Cond.fieldLink "DareFord$Drunk" (3 : Nat) "DareFord$Drunk" "this$0" "LDareFord;") ∈ lw_all := lw_g (lw_at lw_m2 154 rfl) rfl
theorem q481 : (Jvm.Cond.laysFinal "DareFord$Drunk" "DareFord$Drunk" "this$0" "LDareFord;") ∈ lw_all := lw_g (lw_at lw_m2 155 rfl) rfl
theorem q482 : (Jvm.Cond.soleField "DareFord$Drunk" "this$0") ∈ lw_all := lw_g (lw_at lw_m2 156 rfl) rfl
theorem q483 : (Jvm.Cond.laysFinal "DareFord$Drunk" "DareFord$Person" "number" "I") ∈ lw_all := lw_g (lw_at lw_m2 157 rfl) rfl
theorem q484 : (Jvm.Cond.laysFinal "DareFord$Drunk" "DareFord$Person" "this$0" "LDareFord;") ∈ lw_all := lw_g (lw_at lw_m2 158 rfl) rfl
theorem q485 : (Jvm.Cond.superclass "DareFord$Drunk" "DareFord$Person") ∈ lw_all := lw_g (lw_at lw_m2 159 rfl) rfl
theorem q561 : (Jvm.Cond.selects "DareFord$Drunk" ({ cls := "DareFord$Person", name := "kind", desc := "()I" } : Jvm.MethodName) ({ cls := "DareFord$Drunk", name := "kind", desc := "()I" } : Jvm.MethodName)) ∈ lw_all := lw_g (lw_at lw_m2 235 rfl) rfl
theorem q562 : (Jvm.Cond.instanceMethod ({ cls := "DareFord$Drunk", name := "kind", desc := "()I" } : Jvm.MethodName)) ∈ lw_all := lw_g (lw_at lw_m2 236 rfl) rfl
theorem q563 : (Jvm.Cond.code ({ cls := "DareFord$Drunk", name := "kind", desc := "()I" } : Jvm.MethodName) prog_5_method_2_code (1 : Nat) (Option.some Jvm.ClassFile.FieldType.int)) ∈ lw_all := lw_g (lw_at lw_m2 237 rfl) rfl
theorem q564 : (Jvm.Cond.methodLink "DareFord$Drunk" (15 : Nat) ({ cls := "DareFord$Person", name := "kind", desc := "()I" } : Jvm.MethodName)) ∈ lw_all := lw_g (lw_at lw_m2 238 rfl) rfl
theorem q609 : (Jvm.Cond.castable "DareFord$Drunk" "DareFord$Daring") ∈ lw_tbl := lw_at lw_m3 43 rfl
theorem q610 : (Jvm.Cond.selects "DareFord$Drunk" ({ cls := "DareFord$Daring", name := "dares", desc := "(III)I" } : Jvm.MethodName) ({ cls := "DareFord$Drunk", name := "dares", desc := "(III)I" } : Jvm.MethodName)) ∈ lw_all := lw_g (lw_at lw_m3 44 rfl) rfl
theorem q611 : (Jvm.Cond.unhidden "DareFord$Drunk" "dares" "(III)I") ∈ lw_tbl := lw_at lw_m3 45 rfl
theorem q612 : (Jvm.Cond.instanceMethod ({ cls := "DareFord$Drunk", name := "dares", desc := "(III)I" } : Jvm.MethodName)) ∈ lw_all := lw_g (lw_at lw_m3 46 rfl) rfl
theorem q613 : (Jvm.Cond.publicMethod ({ cls := "DareFord$Drunk", name := "dares", desc := "(III)I" } : Jvm.MethodName)) ∈ lw_tbl := lw_at lw_m3 47 rfl
theorem q614 : (Jvm.Cond.code ({ cls := "DareFord$Drunk", name := "dares", desc := "(III)I" } : Jvm.MethodName) prog_5_method_3_code (5 : Nat) (Option.some Jvm.ClassFile.FieldType.int)) ∈ lw_all := lw_g (lw_at lw_m3 48 rfl) rfl
theorem q615 : (Jvm.Cond.methodLink "DareFord$Drunk" (19 : Nat) ({ cls := "DareFord$Person", name := "dares", desc := "(III)I" } : Jvm.MethodName)) ∈ lw_all := lw_g (lw_at lw_m3 49 rfl) rfl
theorem q655 : (Jvm.Cond.instanceMethod ({ cls := "DareFord$Drunk", name := "mark", desc := "()I" } : Jvm.MethodName)) ∈ lw_all := lw_g (lw_at lw_m3 89 rfl) rfl
theorem q656 : (Jvm.Cond.selects "DareFord$Drunk" ({ cls := "DareFord$Drunk", name := "mark", desc := "()I" } : Jvm.MethodName) ({ cls := "DareFord$Drunk", name := "mark", desc := "()I" } : Jvm.MethodName)) ∈ lw_all := lw_g (lw_at lw_m3 90 rfl) rfl
theorem q657 : (Jvm.Cond.code ({ cls := "DareFord$Drunk", name := "mark", desc := "()I" } : Jvm.MethodName) prog_5_method_4_code (1 : Nat) (Option.some Jvm.ClassFile.FieldType.int)) ∈ lw_all := lw_g (lw_at lw_m3 91 rfl) rfl
theorem q658 : (Jvm.Cond.methodLinkNest "DareFord$Drunk" (31 : Nat) ({ cls := "DareFord", name := "farOn", desc := "(II)I" } : Jvm.MethodName) "DareFord") ∈ lw_tbl := lw_at lw_m3 92 rfl
theorem q659 : (Jvm.Cond.methodLink "DareFord$Drunk" (35 : Nat) ({ cls := "DareFord$Drunk", name := "dares", desc := "(III)I" } : Jvm.MethodName)) ∈ lw_all := lw_g (lw_at lw_m3 93 rfl) rfl
theorem q722 : (Jvm.Cond.unhidden "DareFord$Drunk" "fades" "()I") ∈ lw_tbl := lw_at lw_m3 156 rfl
theorem q1419 : (Jvm.Cond.selects "DareFord$Drunk" ({ cls := "DareFord$Drunk", name := "dares", desc := "(III)I" } : Jvm.MethodName) ({ cls := "DareFord$Drunk", name := "dares", desc := "(III)I" } : Jvm.MethodName)) ∈ lw_all := lw_g (lw_at lw_m6 133 rfl) rfl
theorem q1432 : (Jvm.Cond.castable "DareFord$Drunk" "DareFord$Person") ∈ lw_tbl := lw_at lw_m6 146 rfl
theorem in_X3 : ∀ w ∈ wsX30, w ∈ lw_all := lw_in wsX30 [483, 484, 481] (by decide +kernel) (by decide +kernel)

/-! DareFord$Fearful -/
set_option maxRecDepth 100000
def RX4 : String := "DareFord$Fearful"
def TX4 : u_T := fun k => match k with
  | 0 => ("DareFord$Person", "number", "I", true)
  | 1 => ("DareFord$Person", "this$0", "LDareFord;", true)
  | _ => ("DareFord$Fearful", "this$0", "LDareFord;", true)
def tyX4 : Nat → FieldType := fun k => match k with
  | 0 => .int
  | 1 => .object "DareFord"
  | _ => .object "DareFord"
abbrev wsX40 : List Cond := u_ws RX4 TX4 3
-- two fields of one name: no nmX4
theorem tyX4_ok : ∀ k, k < 3 → parseFieldDescriptor (TX4 k).2.2.1 = some (tyX4 k) := by decide +kernel
abbrev cX4_init : ByteArray := prog_6_method_1_code
def yX4_init : MethodName := ⟨RX4, "<init>", "(LDareFord;I)V"⟩
def dkwX4_init_0 : List UInt8 := [42, 43, 181, 0, 3, 42, 43, 28, 183, 0, 9, 177]
abbrev dktX4_init_0 : List UInt8 := dkwX4_init_0 ++ []
theorem dksX4_init_0 : cX4_init.data.toList.drop 0 = dktX4_init_0 := by decide +kernel
theorem dX4_init_0 : decode cX4_init 0 = .ok (.aload_n 0, 1) := dk_42 (dk_at dksX4_init_0 0 rfl rfl)
theorem dX4_init_1 : decode cX4_init 1 = .ok (.aload_n 1, 1) := dk_43 (dk_at dksX4_init_0 1 rfl rfl)
theorem dX4_init_2 : decode cX4_init 2 = .ok (.putfield 3, 3) := dk_181 0 3 (dk_at dksX4_init_0 2 rfl rfl)
theorem dX4_init_5 : decode cX4_init 5 = .ok (.aload_n 0, 1) := dk_42 (dk_at dksX4_init_0 5 rfl rfl)
theorem dX4_init_6 : decode cX4_init 6 = .ok (.aload_n 1, 1) := dk_43 (dk_at dksX4_init_0 6 rfl rfl)
theorem dX4_init_7 : decode cX4_init 7 = .ok (.iload_n 2, 1) := dk_28 (dk_at dksX4_init_0 7 rfl rfl)
theorem dX4_init_8 : decode cX4_init 8 = .ok (.invokespecial 9, 3) := dk_183 0 9 (dk_at dksX4_init_0 8 rfl rfl)
theorem dX4_init_11 : decode cX4_init 11 = .ok (.return_, 1) := dk_177 (dk_at dksX4_init_0 11 rfl rfl)
abbrev cX4_kind : ByteArray := prog_6_method_2_code
def yX4_kind : MethodName := ⟨RX4, "kind", "()I"⟩
def dkwX4_kind_0 : List UInt8 := [42, 183, 0, 15, 5, 96, 172]
abbrev dktX4_kind_0 : List UInt8 := dkwX4_kind_0 ++ []
theorem dksX4_kind_0 : cX4_kind.data.toList.drop 0 = dktX4_kind_0 := by decide +kernel
theorem dX4_kind_0 : decode cX4_kind 0 = .ok (.aload_n 0, 1) := dk_42 (dk_at dksX4_kind_0 0 rfl rfl)
theorem dX4_kind_1 : decode cX4_kind 1 = .ok (.invokespecial 15, 3) := dk_183 0 15 (dk_at dksX4_kind_0 1 rfl rfl)
theorem dX4_kind_4 : decode cX4_kind 4 = .ok (.iconst 2, 1) := dk_5 (dk_at dksX4_kind_0 4 rfl rfl)
theorem dX4_kind_5 : decode cX4_kind 5 = .ok (.iadd, 1) := dk_96 (dk_at dksX4_kind_0 5 rfl rfl)
theorem dX4_kind_6 : decode cX4_kind 6 = .ok (.ireturn, 1) := dk_172 (dk_at dksX4_kind_0 6 rfl rfl)
abbrev cX4_dares : ByteArray := prog_6_method_3_code
def yX4_dares : MethodName := ⟨RX4, "dares", "(III)I"⟩
def dkwX4_dares_0 : List UInt8 := [27, 8, 162, 0, 7, 3, 167, 0, 10, 42, 27, 28, 29, 183, 0, 19, 172]
abbrev dktX4_dares_0 : List UInt8 := dkwX4_dares_0 ++ []
theorem dksX4_dares_0 : cX4_dares.data.toList.drop 0 = dktX4_dares_0 := by decide +kernel
theorem dX4_dares_0 : decode cX4_dares 0 = .ok (.iload_n 1, 1) := dk_27 (dk_at dksX4_dares_0 0 rfl rfl)
theorem dX4_dares_1 : decode cX4_dares 1 = .ok (.iconst 5, 1) := dk_8 (dk_at dksX4_dares_0 1 rfl rfl)
theorem dX4_dares_2 : decode cX4_dares 2 = .ok (.if_icmp .ge 7, 3) := dk_162 0 7 (dk_at dksX4_dares_0 2 rfl rfl)
theorem dX4_dares_5 : decode cX4_dares 5 = .ok (.iconst 0, 1) := dk_3 (dk_at dksX4_dares_0 5 rfl rfl)
theorem dX4_dares_6 : decode cX4_dares 6 = .ok (.goto 10, 3) := dk_167 0 10 (dk_at dksX4_dares_0 6 rfl rfl)
theorem dX4_dares_9 : decode cX4_dares 9 = .ok (.aload_n 0, 1) := dk_42 (dk_at dksX4_dares_0 9 rfl rfl)
theorem dX4_dares_10 : decode cX4_dares 10 = .ok (.iload_n 1, 1) := dk_27 (dk_at dksX4_dares_0 10 rfl rfl)
theorem dX4_dares_11 : decode cX4_dares 11 = .ok (.iload_n 2, 1) := dk_28 (dk_at dksX4_dares_0 11 rfl rfl)
theorem dX4_dares_12 : decode cX4_dares 12 = .ok (.iload_n 3, 1) := dk_29 (dk_at dksX4_dares_0 12 rfl rfl)
theorem dX4_dares_13 : decode cX4_dares 13 = .ok (.invokespecial 19, 3) := dk_183 0 19 (dk_at dksX4_dares_0 13 rfl rfl)
theorem dX4_dares_16 : decode cX4_dares 16 = .ok (.ireturn, 1) := dk_172 (dk_at dksX4_dares_0 16 rfl rfl)
abbrev cX4_mark : ByteArray := prog_6_method_5_code
def yX4_mark : MethodName := ⟨RX4, "mark", "()I"⟩
def dkwX4_mark_0 : List UInt8 := [3, 8, 42, 180, 0, 3, 180, 0, 26, 5, 42, 180, 0, 30, 96, 46, 100, 184, 0, 34, 172]
abbrev dktX4_mark_0 : List UInt8 := dkwX4_mark_0 ++ []
theorem dksX4_mark_0 : cX4_mark.data.toList.drop 0 = dktX4_mark_0 := by decide +kernel
theorem dX4_mark_0 : decode cX4_mark 0 = .ok (.iconst 0, 1) := dk_3 (dk_at dksX4_mark_0 0 rfl rfl)
theorem dX4_mark_1 : decode cX4_mark 1 = .ok (.iconst 5, 1) := dk_8 (dk_at dksX4_mark_0 1 rfl rfl)
theorem dX4_mark_2 : decode cX4_mark 2 = .ok (.aload_n 0, 1) := dk_42 (dk_at dksX4_mark_0 2 rfl rfl)
theorem dX4_mark_3 : decode cX4_mark 3 = .ok (.getfield 3, 3) := dk_180 0 3 (dk_at dksX4_mark_0 3 rfl rfl)
theorem dX4_mark_6 : decode cX4_mark 6 = .ok (.getfield 26, 3) := dk_180 0 26 (dk_at dksX4_mark_0 6 rfl rfl)
theorem dX4_mark_9 : decode cX4_mark 9 = .ok (.iconst 2, 1) := dk_5 (dk_at dksX4_mark_0 9 rfl rfl)
theorem dX4_mark_10 : decode cX4_mark 10 = .ok (.aload_n 0, 1) := dk_42 (dk_at dksX4_mark_0 10 rfl rfl)
theorem dX4_mark_11 : decode cX4_mark 11 = .ok (.getfield 30, 3) := dk_180 0 30 (dk_at dksX4_mark_0 11 rfl rfl)
theorem dX4_mark_14 : decode cX4_mark 14 = .ok (.iadd, 1) := dk_96 (dk_at dksX4_mark_0 14 rfl rfl)
theorem dX4_mark_15 : decode cX4_mark 15 = .ok (.iaload, 1) := dk_46 (dk_at dksX4_mark_0 15 rfl rfl)
theorem dX4_mark_16 : decode cX4_mark 16 = .ok (.isub, 1) := dk_100 (dk_at dksX4_mark_0 16 rfl rfl)
theorem dX4_mark_17 : decode cX4_mark 17 = .ok (.invokestatic 34, 3) := dk_184 0 34 (dk_at dksX4_mark_0 17 rfl rfl)
theorem dX4_mark_20 : decode cX4_mark 20 = .ok (.ireturn, 1) := dk_172 (dk_at dksX4_mark_0 20 rfl rfl)
abbrev cX4_fades : ByteArray := prog_6_method_4_code
def yX4_fades : MethodName := ⟨RX4, "fades", "()I"⟩
def dkwX4_fades_0 : List UInt8 := [42, 183, 0, 23, 4, 96, 172]
abbrev dktX4_fades_0 : List UInt8 := dkwX4_fades_0 ++ []
theorem dksX4_fades_0 : cX4_fades.data.toList.drop 0 = dktX4_fades_0 := by decide +kernel
theorem dX4_fades_0 : decode cX4_fades 0 = .ok (.aload_n 0, 1) := dk_42 (dk_at dksX4_fades_0 0 rfl rfl)
theorem dX4_fades_1 : decode cX4_fades 1 = .ok (.invokespecial 23, 3) := dk_183 0 23 (dk_at dksX4_fades_0 1 rfl rfl)
theorem dX4_fades_4 : decode cX4_fades 4 = .ok (.iconst 1, 1) := dk_4 (dk_at dksX4_fades_0 4 rfl rfl)
theorem dX4_fades_5 : decode cX4_fades 5 = .ok (.iadd, 1) := dk_96 (dk_at dksX4_fades_0 5 rfl rfl)
theorem dX4_fades_6 : decode cX4_fades 6 = .ok (.ireturn, 1) := dk_172 (dk_at dksX4_fades_0 6 rfl rfl)
theorem q101 : (Jvm.Cond.initialized "DareFord$Fearful") ∈ lw_all := lw_g (lw_at lw_m1 15 rfl) rfl
theorem q138 : (Jvm.Cond.fieldLinkNest "DareFord$Fearful" (26 : Nat) "DareFord" "at" "[I" "DareFord") ∈ lw_tbl := lw_at lw_m1 52 rfl
theorem q466 : (Jvm.Cond.fieldLink "DareFord$Fearful" (30 : Nat) "DareFord$Fearful" "number" "I") ∈ lw_all := lw_g (lw_at lw_m2 140 rfl) rfl
theorem q467 : (Jvm.Cond.sameField "DareFord$Fearful" "DareFord$Person" "number" "I") ∈ lw_all := lw_g (lw_at lw_m2 141 rfl) rfl
theorem q487 : (Jvm.Cond.instantiable "DareFord$Fearful" (3 : Nat)) ∈ lw_all := lw_g (lw_at lw_m2 161 rfl) rfl
theorem q489 : (Jvm.Cond.instanceMethod ({ cls := "DareFord$Fearful", name := "<init>", desc := "(LDareFord;I)V" } : Jvm.MethodName)) ∈ lw_all := lw_g (lw_at lw_m2 163 rfl) rfl
theorem q490 : (Jvm.Cond.code ({ cls := "DareFord$Fearful", name := "<init>", desc := "(LDareFord;I)V" } : Jvm.MethodName) prog_6_method_1_code (3 : Nat) (Option.none : Option Jvm.ClassFile.FieldType)) ∈ lw_all := lw_g (lw_at lw_m2 164 rfl) rfl
theorem q491 : (Jvm.Cond.methodLink "DareFord$Fearful" (9 : Nat) ({ cls := "DareFord$Person", name := "<init>", desc := "(LDareFord;I)V" } : Jvm.MethodName)) ∈ lw_all := lw_g (lw_at lw_m2 165 rfl) rfl
theorem q492 : (Jvm.Cond.fieldLink "DareFord$Fearful" (3 : Nat) "DareFord$Fearful" "this$0" "LDareFord;") ∈ lw_all := lw_g (lw_at lw_m2 166 rfl) rfl
theorem q493 : (Jvm.Cond.laysFinal "DareFord$Fearful" "DareFord$Fearful" "this$0" "LDareFord;") ∈ lw_all := lw_g (lw_at lw_m2 167 rfl) rfl
theorem q494 : (Jvm.Cond.soleField "DareFord$Fearful" "this$0") ∈ lw_all := lw_g (lw_at lw_m2 168 rfl) rfl
theorem q495 : (Jvm.Cond.laysFinal "DareFord$Fearful" "DareFord$Person" "number" "I") ∈ lw_all := lw_g (lw_at lw_m2 169 rfl) rfl
theorem q496 : (Jvm.Cond.laysFinal "DareFord$Fearful" "DareFord$Person" "this$0" "LDareFord;") ∈ lw_all := lw_g (lw_at lw_m2 170 rfl) rfl
theorem q497 : (Jvm.Cond.superclass "DareFord$Fearful" "DareFord$Person") ∈ lw_all := lw_g (lw_at lw_m2 171 rfl) rfl
theorem q565 : (Jvm.Cond.selects "DareFord$Fearful" ({ cls := "DareFord$Person", name := "kind", desc := "()I" } : Jvm.MethodName) ({ cls := "DareFord$Fearful", name := "kind", desc := "()I" } : Jvm.MethodName)) ∈ lw_all := lw_g (lw_at lw_m2 239 rfl) rfl
theorem q566 : (Jvm.Cond.instanceMethod ({ cls := "DareFord$Fearful", name := "kind", desc := "()I" } : Jvm.MethodName)) ∈ lw_all := lw_g (lw_at lw_m3 0 rfl) rfl
theorem q567 : (Jvm.Cond.code ({ cls := "DareFord$Fearful", name := "kind", desc := "()I" } : Jvm.MethodName) prog_6_method_2_code (1 : Nat) (Option.some Jvm.ClassFile.FieldType.int)) ∈ lw_all := lw_g (lw_at lw_m3 1 rfl) rfl
theorem q568 : (Jvm.Cond.methodLink "DareFord$Fearful" (15 : Nat) ({ cls := "DareFord$Person", name := "kind", desc := "()I" } : Jvm.MethodName)) ∈ lw_all := lw_g (lw_at lw_m3 2 rfl) rfl
theorem q616 : (Jvm.Cond.castable "DareFord$Fearful" "DareFord$Daring") ∈ lw_tbl := lw_at lw_m3 50 rfl
theorem q617 : (Jvm.Cond.selects "DareFord$Fearful" ({ cls := "DareFord$Daring", name := "dares", desc := "(III)I" } : Jvm.MethodName) ({ cls := "DareFord$Fearful", name := "dares", desc := "(III)I" } : Jvm.MethodName)) ∈ lw_all := lw_g (lw_at lw_m3 51 rfl) rfl
theorem q618 : (Jvm.Cond.unhidden "DareFord$Fearful" "dares" "(III)I") ∈ lw_tbl := lw_at lw_m3 52 rfl
theorem q619 : (Jvm.Cond.instanceMethod ({ cls := "DareFord$Fearful", name := "dares", desc := "(III)I" } : Jvm.MethodName)) ∈ lw_all := lw_g (lw_at lw_m3 53 rfl) rfl
theorem q620 : (Jvm.Cond.publicMethod ({ cls := "DareFord$Fearful", name := "dares", desc := "(III)I" } : Jvm.MethodName)) ∈ lw_tbl := lw_at lw_m3 54 rfl
theorem q621 : (Jvm.Cond.code ({ cls := "DareFord$Fearful", name := "dares", desc := "(III)I" } : Jvm.MethodName) prog_6_method_3_code (4 : Nat) (Option.some Jvm.ClassFile.FieldType.int)) ∈ lw_all := lw_g (lw_at lw_m3 55 rfl) rfl
theorem q622 : (Jvm.Cond.methodLink "DareFord$Fearful" (19 : Nat) ({ cls := "DareFord$Person", name := "dares", desc := "(III)I" } : Jvm.MethodName)) ∈ lw_all := lw_g (lw_at lw_m3 56 rfl) rfl
theorem q665 : (Jvm.Cond.instanceMethod ({ cls := "DareFord$Fearful", name := "mark", desc := "()I" } : Jvm.MethodName)) ∈ lw_all := lw_g (lw_at lw_m3 99 rfl) rfl
theorem q666 : (Jvm.Cond.code ({ cls := "DareFord$Fearful", name := "mark", desc := "()I" } : Jvm.MethodName) prog_6_method_5_code (1 : Nat) (Option.some Jvm.ClassFile.FieldType.int)) ∈ lw_all := lw_g (lw_at lw_m3 100 rfl) rfl
theorem q667 : (Jvm.Cond.methodLink "DareFord$Fearful" (34 : Nat) ({ cls := "java/lang/Math", name := "max", desc := "(II)I" } : Jvm.MethodName)) ∈ lw_all := lw_g (lw_at lw_m3 101 rfl) rfl
theorem q726 : (Jvm.Cond.selects "DareFord$Fearful" ({ cls := "DareFord$Daring", name := "fades", desc := "()I" } : Jvm.MethodName) ({ cls := "DareFord$Fearful", name := "fades", desc := "()I" } : Jvm.MethodName)) ∈ lw_all := lw_g (lw_at lw_m3 160 rfl) rfl
theorem q727 : (Jvm.Cond.unhidden "DareFord$Fearful" "fades" "()I") ∈ lw_tbl := lw_at lw_m3 161 rfl
theorem q728 : (Jvm.Cond.instanceMethod ({ cls := "DareFord$Fearful", name := "fades", desc := "()I" } : Jvm.MethodName)) ∈ lw_all := lw_g (lw_at lw_m3 162 rfl) rfl
theorem q729 : (Jvm.Cond.publicMethod ({ cls := "DareFord$Fearful", name := "fades", desc := "()I" } : Jvm.MethodName)) ∈ lw_tbl := lw_at lw_m3 163 rfl
theorem q730 : (Jvm.Cond.code ({ cls := "DareFord$Fearful", name := "fades", desc := "()I" } : Jvm.MethodName) prog_6_method_4_code (1 : Nat) (Option.some Jvm.ClassFile.FieldType.int)) ∈ lw_all := lw_g (lw_at lw_m3 164 rfl) rfl
theorem q1416 : (Jvm.Cond.sameMethod "DareFord$Fearful" "DareFord$Fearful" "kind" "()I") ∈ lw_all := lw_g (lw_at lw_m6 130 rfl) rfl
theorem q1418 : (Jvm.Cond.sameMethod "DareFord$Fearful" "DareFord$Fearful" "dares" "(III)I") ∈ lw_all := lw_g (lw_at lw_m6 132 rfl) rfl
theorem q1420 : (Jvm.Cond.sameMethod "DareFord$Fearful" "DareFord$Fearful" "mark" "()I") ∈ lw_all := lw_g (lw_at lw_m6 134 rfl) rfl
theorem q1421 : (Jvm.Cond.selects "DareFord$Fearful" ({ cls := "DareFord$Fearful", name := "mark", desc := "()I" } : Jvm.MethodName) ({ cls := "DareFord$Fearful", name := "mark", desc := "()I" } : Jvm.MethodName)) ∈ lw_all := lw_g (lw_at lw_m6 135 rfl) rfl
theorem q1433 : (Jvm.Cond.castable "DareFord$Fearful" "DareFord$Person") ∈ lw_tbl := lw_at lw_m6 147 rfl
theorem in_X4 : ∀ w ∈ wsX40, w ∈ lw_all := lw_in wsX40 [495, 496, 493] (by decide +kernel) (by decide +kernel)

/-! DareFord$Bred -/
set_option maxRecDepth 100000
def RX5 : String := "DareFord$Bred"
def TX5 : u_T := fun k => match k with
  | 0 => ("DareFord$Person", "number", "I", true)
  | 1 => ("DareFord$Person", "this$0", "LDareFord;", true)
  | _ => ("DareFord$Bred", "this$0", "LDareFord;", true)
def tyX5 : Nat → FieldType := fun k => match k with
  | 0 => .int
  | 1 => .object "DareFord"
  | _ => .object "DareFord"
abbrev wsX50 : List Cond := u_ws RX5 TX5 3
-- two fields of one name: no nmX5
theorem tyX5_ok : ∀ k, k < 3 → parseFieldDescriptor (TX5 k).2.2.1 = some (tyX5 k) := by decide +kernel
abbrev cX5_init : ByteArray := prog_3_method_1_code
def yX5_init : MethodName := ⟨RX5, "<init>", "(LDareFord;I)V"⟩
def dkwX5_init_0 : List UInt8 := [42, 43, 181, 0, 3, 42, 43, 28, 183, 0, 9, 177]
abbrev dktX5_init_0 : List UInt8 := dkwX5_init_0 ++ []
theorem dksX5_init_0 : cX5_init.data.toList.drop 0 = dktX5_init_0 := by decide +kernel
theorem dX5_init_0 : decode cX5_init 0 = .ok (.aload_n 0, 1) := dk_42 (dk_at dksX5_init_0 0 rfl rfl)
theorem dX5_init_1 : decode cX5_init 1 = .ok (.aload_n 1, 1) := dk_43 (dk_at dksX5_init_0 1 rfl rfl)
theorem dX5_init_2 : decode cX5_init 2 = .ok (.putfield 3, 3) := dk_181 0 3 (dk_at dksX5_init_0 2 rfl rfl)
theorem dX5_init_5 : decode cX5_init 5 = .ok (.aload_n 0, 1) := dk_42 (dk_at dksX5_init_0 5 rfl rfl)
theorem dX5_init_6 : decode cX5_init 6 = .ok (.aload_n 1, 1) := dk_43 (dk_at dksX5_init_0 6 rfl rfl)
theorem dX5_init_7 : decode cX5_init 7 = .ok (.iload_n 2, 1) := dk_28 (dk_at dksX5_init_0 7 rfl rfl)
theorem dX5_init_8 : decode cX5_init 8 = .ok (.invokespecial 9, 3) := dk_183 0 9 (dk_at dksX5_init_0 8 rfl rfl)
theorem dX5_init_11 : decode cX5_init 11 = .ok (.return_, 1) := dk_177 (dk_at dksX5_init_0 11 rfl rfl)
abbrev cX5_kind : ByteArray := prog_3_method_2_code
def yX5_kind : MethodName := ⟨RX5, "kind", "()I"⟩
def dkwX5_kind_0 : List UInt8 := [42, 183, 0, 15, 6, 96, 172]
abbrev dktX5_kind_0 : List UInt8 := dkwX5_kind_0 ++ []
theorem dksX5_kind_0 : cX5_kind.data.toList.drop 0 = dktX5_kind_0 := by decide +kernel
theorem dX5_kind_0 : decode cX5_kind 0 = .ok (.aload_n 0, 1) := dk_42 (dk_at dksX5_kind_0 0 rfl rfl)
theorem dX5_kind_1 : decode cX5_kind 1 = .ok (.invokespecial 15, 3) := dk_183 0 15 (dk_at dksX5_kind_0 1 rfl rfl)
theorem dX5_kind_4 : decode cX5_kind 4 = .ok (.iconst 3, 1) := dk_6 (dk_at dksX5_kind_0 4 rfl rfl)
theorem dX5_kind_5 : decode cX5_kind 5 = .ok (.iadd, 1) := dk_96 (dk_at dksX5_kind_0 5 rfl rfl)
theorem dX5_kind_6 : decode cX5_kind 6 = .ok (.ireturn, 1) := dk_172 (dk_at dksX5_kind_0 6 rfl rfl)
abbrev cX5_mark : ByteArray := prog_3_method_4_code
def yX5_mark : MethodName := ⟨RX5, "mark", "()I"⟩
def dkwX5_mark_2 : List UInt8 := [3, 96, 60, 132, 2, 1, 167, 255, 206, 27, 172]
abbrev dktX5_mark_2 : List UInt8 := dkwX5_mark_2 ++ []
def dkwX5_mark_1 : List UInt8 := [28, 96, 46, 42, 180, 0, 3, 180, 0, 23, 5, 42, 180, 0, 27, 96, 46, 162, 0, 7, 4, 167, 0, 4]
abbrev dktX5_mark_1 : List UInt8 := dkwX5_mark_1 ++ dktX5_mark_2
def dkwX5_mark_0 : List UInt8 := [3, 60, 3, 61, 28, 42, 180, 0, 3, 180, 0, 19, 162, 0, 45, 27, 42, 180, 0, 3, 180, 0, 23, 5]
abbrev dktX5_mark_0 : List UInt8 := dkwX5_mark_0 ++ dktX5_mark_1
theorem dksX5_mark_0 : cX5_mark.data.toList.drop 0 = dktX5_mark_0 := by decide +kernel
theorem dksX5_mark_1 : cX5_mark.data.toList.drop 24 = dktX5_mark_1 := dk_seg dksX5_mark_0 24 rfl rfl
theorem dksX5_mark_2 : cX5_mark.data.toList.drop 48 = dktX5_mark_2 := dk_seg dksX5_mark_1 24 rfl rfl
theorem dX5_mark_0 : decode cX5_mark 0 = .ok (.iconst 0, 1) := dk_3 (dk_at dksX5_mark_0 0 rfl rfl)
theorem dX5_mark_1 : decode cX5_mark 1 = .ok (.istore_n 1, 1) := dk_60 (dk_at dksX5_mark_0 1 rfl rfl)
theorem dX5_mark_2 : decode cX5_mark 2 = .ok (.iconst 0, 1) := dk_3 (dk_at dksX5_mark_0 2 rfl rfl)
theorem dX5_mark_3 : decode cX5_mark 3 = .ok (.istore_n 2, 1) := dk_61 (dk_at dksX5_mark_0 3 rfl rfl)
theorem dX5_mark_4 : decode cX5_mark 4 = .ok (.iload_n 2, 1) := dk_28 (dk_at dksX5_mark_0 4 rfl rfl)
theorem dX5_mark_5 : decode cX5_mark 5 = .ok (.aload_n 0, 1) := dk_42 (dk_at dksX5_mark_0 5 rfl rfl)
theorem dX5_mark_6 : decode cX5_mark 6 = .ok (.getfield 3, 3) := dk_180 0 3 (dk_at dksX5_mark_0 6 rfl rfl)
theorem dX5_mark_9 : decode cX5_mark 9 = .ok (.getfield 19, 3) := dk_180 0 19 (dk_at dksX5_mark_0 9 rfl rfl)
theorem dX5_mark_12 : decode cX5_mark 12 = .ok (.if_icmp .ge 45, 3) := dk_162 0 45 (dk_at dksX5_mark_0 12 rfl rfl)
theorem dX5_mark_15 : decode cX5_mark 15 = .ok (.iload_n 1, 1) := dk_27 (dk_at dksX5_mark_0 15 rfl rfl)
theorem dX5_mark_16 : decode cX5_mark 16 = .ok (.aload_n 0, 1) := dk_42 (dk_at dksX5_mark_0 16 rfl rfl)
theorem dX5_mark_17 : decode cX5_mark 17 = .ok (.getfield 3, 3) := dk_180 0 3 (dk_at dksX5_mark_0 17 rfl rfl)
theorem dX5_mark_20 : decode cX5_mark 20 = .ok (.getfield 23, 3) := dk_180 0 23 (dk_at dksX5_mark_0 20 rfl rfl)
theorem dX5_mark_23 : decode cX5_mark 23 = .ok (.iconst 2, 1) := dk_5 (dk_at dksX5_mark_0 23 rfl rfl)
theorem dX5_mark_24 : decode cX5_mark 24 = .ok (.iload_n 2, 1) := dk_28 (dk_at dksX5_mark_1 0 rfl rfl)
theorem dX5_mark_25 : decode cX5_mark 25 = .ok (.iadd, 1) := dk_96 (dk_at dksX5_mark_1 1 rfl rfl)
theorem dX5_mark_26 : decode cX5_mark 26 = .ok (.iaload, 1) := dk_46 (dk_at dksX5_mark_1 2 rfl rfl)
theorem dX5_mark_27 : decode cX5_mark 27 = .ok (.aload_n 0, 1) := dk_42 (dk_at dksX5_mark_1 3 rfl rfl)
theorem dX5_mark_28 : decode cX5_mark 28 = .ok (.getfield 3, 3) := dk_180 0 3 (dk_at dksX5_mark_1 4 rfl rfl)
theorem dX5_mark_31 : decode cX5_mark 31 = .ok (.getfield 23, 3) := dk_180 0 23 (dk_at dksX5_mark_1 7 rfl rfl)
theorem dX5_mark_34 : decode cX5_mark 34 = .ok (.iconst 2, 1) := dk_5 (dk_at dksX5_mark_1 10 rfl rfl)
theorem dX5_mark_35 : decode cX5_mark 35 = .ok (.aload_n 0, 1) := dk_42 (dk_at dksX5_mark_1 11 rfl rfl)
theorem dX5_mark_36 : decode cX5_mark 36 = .ok (.getfield 27, 3) := dk_180 0 27 (dk_at dksX5_mark_1 12 rfl rfl)
theorem dX5_mark_39 : decode cX5_mark 39 = .ok (.iadd, 1) := dk_96 (dk_at dksX5_mark_1 15 rfl rfl)
theorem dX5_mark_40 : decode cX5_mark 40 = .ok (.iaload, 1) := dk_46 (dk_at dksX5_mark_1 16 rfl rfl)
theorem dX5_mark_41 : decode cX5_mark 41 = .ok (.if_icmp .ge 7, 3) := dk_162 0 7 (dk_at dksX5_mark_1 17 rfl rfl)
theorem dX5_mark_44 : decode cX5_mark 44 = .ok (.iconst 1, 1) := dk_4 (dk_at dksX5_mark_1 20 rfl rfl)
theorem dX5_mark_45 : decode cX5_mark 45 = .ok (.goto 4, 3) := dk_167 0 4 (dk_at dksX5_mark_1 21 rfl rfl)
theorem dX5_mark_48 : decode cX5_mark 48 = .ok (.iconst 0, 1) := dk_3 (dk_at dksX5_mark_2 0 rfl rfl)
theorem dX5_mark_49 : decode cX5_mark 49 = .ok (.iadd, 1) := dk_96 (dk_at dksX5_mark_2 1 rfl rfl)
theorem dX5_mark_50 : decode cX5_mark 50 = .ok (.istore_n 1, 1) := dk_60 (dk_at dksX5_mark_2 2 rfl rfl)
theorem dX5_mark_51 : decode cX5_mark 51 = .ok (.iinc 2 1, 3) := dk_132 2 1 (dk_at dksX5_mark_2 3 rfl rfl)
theorem dX5_mark_54 : decode cX5_mark 54 = .ok (.goto (-50), 3) := dk_167 255 206 (dk_at dksX5_mark_2 6 rfl rfl)
theorem dX5_mark_57 : decode cX5_mark 57 = .ok (.iload_n 1, 1) := dk_27 (dk_at dksX5_mark_2 9 rfl rfl)
theorem dX5_mark_58 : decode cX5_mark 58 = .ok (.ireturn, 1) := dk_172 (dk_at dksX5_mark_2 10 rfl rfl)
abbrev cX5_fades : ByteArray := prog_3_method_3_code
def yX5_fades : MethodName := ⟨RX5, "fades", "()I"⟩
theorem dX5_fades_0 : decode cX5_fades 0 = .ok (.iconst 0, 1) := by decide +kernel
theorem dX5_fades_1 : decode cX5_fades 1 = .ok (.ireturn, 1) := by decide +kernel
theorem q102 : (Jvm.Cond.initialized "DareFord$Bred") ∈ lw_all := lw_g (lw_at lw_m1 16 rfl) rfl
theorem q132 : (Jvm.Cond.fieldLinkNest "DareFord$Bred" (19 : Nat) "DareFord" "personMany" "I" "DareFord") ∈ lw_tbl := lw_at lw_m1 46 rfl
theorem q136 : (Jvm.Cond.fieldLinkNest "DareFord$Bred" (23 : Nat) "DareFord" "at" "[I" "DareFord") ∈ lw_tbl := lw_at lw_m1 50 rfl
theorem q460 : (Jvm.Cond.fieldLink "DareFord$Bred" (27 : Nat) "DareFord$Bred" "number" "I") ∈ lw_all := lw_g (lw_at lw_m2 134 rfl) rfl
theorem q461 : (Jvm.Cond.sameField "DareFord$Bred" "DareFord$Person" "number" "I") ∈ lw_all := lw_g (lw_at lw_m2 135 rfl) rfl
theorem q499 : (Jvm.Cond.instantiable "DareFord$Bred" (3 : Nat)) ∈ lw_all := lw_g (lw_at lw_m2 173 rfl) rfl
theorem q501 : (Jvm.Cond.instanceMethod ({ cls := "DareFord$Bred", name := "<init>", desc := "(LDareFord;I)V" } : Jvm.MethodName)) ∈ lw_all := lw_g (lw_at lw_m2 175 rfl) rfl
theorem q502 : (Jvm.Cond.code ({ cls := "DareFord$Bred", name := "<init>", desc := "(LDareFord;I)V" } : Jvm.MethodName) prog_3_method_1_code (3 : Nat) (Option.none : Option Jvm.ClassFile.FieldType)) ∈ lw_all := lw_g (lw_at lw_m2 176 rfl) rfl
theorem q503 : (Jvm.Cond.methodLink "DareFord$Bred" (9 : Nat) ({ cls := "DareFord$Person", name := "<init>", desc := "(LDareFord;I)V" } : Jvm.MethodName)) ∈ lw_all := lw_g (lw_at lw_m2 177 rfl) rfl
theorem q504 : (Jvm.Cond.fieldLink "DareFord$Bred" (3 : Nat) "DareFord$Bred" "this$0" "LDareFord;") ∈ lw_all := lw_g (lw_at lw_m2 178 rfl) rfl
theorem q505 : (Jvm.Cond.laysFinal "DareFord$Bred" "DareFord$Bred" "this$0" "LDareFord;") ∈ lw_all := lw_g (lw_at lw_m2 179 rfl) rfl
theorem q506 : (Jvm.Cond.soleField "DareFord$Bred" "this$0") ∈ lw_all := lw_g (lw_at lw_m2 180 rfl) rfl
theorem q507 : (Jvm.Cond.laysFinal "DareFord$Bred" "DareFord$Person" "number" "I") ∈ lw_all := lw_g (lw_at lw_m2 181 rfl) rfl
theorem q508 : (Jvm.Cond.laysFinal "DareFord$Bred" "DareFord$Person" "this$0" "LDareFord;") ∈ lw_all := lw_g (lw_at lw_m2 182 rfl) rfl
theorem q509 : (Jvm.Cond.superclass "DareFord$Bred" "DareFord$Person") ∈ lw_all := lw_g (lw_at lw_m2 183 rfl) rfl
theorem q556 : (Jvm.Cond.instanceMethod ({ cls := "DareFord$Bred", name := "kind", desc := "()I" } : Jvm.MethodName)) ∈ lw_all := lw_g (lw_at lw_m2 230 rfl) rfl
theorem q557 : (Jvm.Cond.code ({ cls := "DareFord$Bred", name := "kind", desc := "()I" } : Jvm.MethodName) prog_3_method_2_code (1 : Nat) (Option.some Jvm.ClassFile.FieldType.int)) ∈ lw_all := lw_g (lw_at lw_m2 231 rfl) rfl
theorem q558 : (Jvm.Cond.methodLink "DareFord$Bred" (15 : Nat) ({ cls := "DareFord$Person", name := "kind", desc := "()I" } : Jvm.MethodName)) ∈ lw_all := lw_g (lw_at lw_m2 232 rfl) rfl
theorem q560 : (Jvm.Cond.selects "DareFord$Bred" ({ cls := "DareFord$Person", name := "kind", desc := "()I" } : Jvm.MethodName) ({ cls := "DareFord$Bred", name := "kind", desc := "()I" } : Jvm.MethodName)) ∈ lw_all := lw_g (lw_at lw_m2 234 rfl) rfl
theorem q598 : (Jvm.Cond.sameMethod "DareFord$Bred" "DareFord$Person" "dares" "(III)I") ∈ lw_all := lw_g (lw_at lw_m3 32 rfl) rfl
theorem q605 : (Jvm.Cond.castable "DareFord$Bred" "DareFord$Daring") ∈ lw_tbl := lw_at lw_m3 39 rfl
theorem q606 : (Jvm.Cond.selects "DareFord$Bred" ({ cls := "DareFord$Daring", name := "dares", desc := "(III)I" } : Jvm.MethodName) ({ cls := "DareFord$Person", name := "dares", desc := "(III)I" } : Jvm.MethodName)) ∈ lw_all := lw_g (lw_at lw_m3 40 rfl) rfl
theorem q607 : (Jvm.Cond.unhidden "DareFord$Bred" "dares" "(III)I") ∈ lw_tbl := lw_at lw_m3 41 rfl
theorem q677 : (Jvm.Cond.instanceMethod ({ cls := "DareFord$Bred", name := "mark", desc := "()I" } : Jvm.MethodName)) ∈ lw_all := lw_g (lw_at lw_m3 111 rfl) rfl
theorem q678 : (Jvm.Cond.code ({ cls := "DareFord$Bred", name := "mark", desc := "()I" } : Jvm.MethodName) prog_3_method_4_code (3 : Nat) (Option.some Jvm.ClassFile.FieldType.int)) ∈ lw_all := lw_g (lw_at lw_m3 112 rfl) rfl
theorem q717 : (Jvm.Cond.instanceMethod ({ cls := "DareFord$Bred", name := "fades", desc := "()I" } : Jvm.MethodName)) ∈ lw_all := lw_g (lw_at lw_m3 151 rfl) rfl
theorem q718 : (Jvm.Cond.publicMethod ({ cls := "DareFord$Bred", name := "fades", desc := "()I" } : Jvm.MethodName)) ∈ lw_tbl := lw_at lw_m3 152 rfl
theorem q719 : (Jvm.Cond.code ({ cls := "DareFord$Bred", name := "fades", desc := "()I" } : Jvm.MethodName) prog_3_method_3_code (1 : Nat) (Option.some Jvm.ClassFile.FieldType.int)) ∈ lw_all := lw_g (lw_at lw_m3 153 rfl) rfl
theorem q720 : (Jvm.Cond.selects "DareFord$Bred" ({ cls := "DareFord$Daring", name := "fades", desc := "()I" } : Jvm.MethodName) ({ cls := "DareFord$Bred", name := "fades", desc := "()I" } : Jvm.MethodName)) ∈ lw_all := lw_g (lw_at lw_m3 154 rfl) rfl
theorem q721 : (Jvm.Cond.unhidden "DareFord$Bred" "fades" "()I") ∈ lw_tbl := lw_at lw_m3 155 rfl
theorem q1415 : (Jvm.Cond.sameMethod "DareFord$Bred" "DareFord$Bred" "kind" "()I") ∈ lw_all := lw_g (lw_at lw_m6 129 rfl) rfl
theorem q1423 : (Jvm.Cond.sameMethod "DareFord$Bred" "DareFord$Bred" "mark" "()I") ∈ lw_all := lw_g (lw_at lw_m6 137 rfl) rfl
theorem q1425 : (Jvm.Cond.selects "DareFord$Bred" ({ cls := "DareFord$Bred", name := "mark", desc := "()I" } : Jvm.MethodName) ({ cls := "DareFord$Bred", name := "mark", desc := "()I" } : Jvm.MethodName)) ∈ lw_all := lw_g (lw_at lw_m6 139 rfl) rfl
theorem q1434 : (Jvm.Cond.castable "DareFord$Bred" "DareFord$Person") ∈ lw_tbl := lw_at lw_m6 148 rfl
theorem in_X5 : ∀ w ∈ wsX50, w ∈ lw_all := lw_in wsX50 [507, 508, 505] (by decide +kernel) (by decide +kernel)

/-! DareFord$Bet -/
set_option maxRecDepth 100000
def RX6 : String := "DareFord$Bet"
def TX6 : u_T := fun k => match k with
  | 0 => ("DareFord$Person", "number", "I", true)
  | 1 => ("DareFord$Person", "this$0", "LDareFord;", true)
  | 2 => ("DareFord$Bred", "this$0", "LDareFord;", true)
  | _ => ("DareFord$Bet", "this$0", "LDareFord;", true)
def tyX6 : Nat → FieldType := fun k => match k with
  | 0 => .int
  | 1 => .object "DareFord"
  | 2 => .object "DareFord"
  | _ => .object "DareFord"
abbrev wsX60 : List Cond := u_ws RX6 TX6 4
-- two fields of one name: no nmX6
theorem tyX6_ok : ∀ k, k < 4 → parseFieldDescriptor (TX6 k).2.2.1 = some (tyX6 k) := by decide +kernel
abbrev cX6_init : ByteArray := prog_2_method_1_code
def yX6_init : MethodName := ⟨RX6, "<init>", "(LDareFord;I)V"⟩
def dkwX6_init_0 : List UInt8 := [42, 43, 181, 0, 3, 42, 43, 28, 183, 0, 9, 177]
abbrev dktX6_init_0 : List UInt8 := dkwX6_init_0 ++ []
theorem dksX6_init_0 : cX6_init.data.toList.drop 0 = dktX6_init_0 := by decide +kernel
theorem dX6_init_0 : decode cX6_init 0 = .ok (.aload_n 0, 1) := dk_42 (dk_at dksX6_init_0 0 rfl rfl)
theorem dX6_init_1 : decode cX6_init 1 = .ok (.aload_n 1, 1) := dk_43 (dk_at dksX6_init_0 1 rfl rfl)
theorem dX6_init_2 : decode cX6_init 2 = .ok (.putfield 3, 3) := dk_181 0 3 (dk_at dksX6_init_0 2 rfl rfl)
theorem dX6_init_5 : decode cX6_init 5 = .ok (.aload_n 0, 1) := dk_42 (dk_at dksX6_init_0 5 rfl rfl)
theorem dX6_init_6 : decode cX6_init 6 = .ok (.aload_n 1, 1) := dk_43 (dk_at dksX6_init_0 6 rfl rfl)
theorem dX6_init_7 : decode cX6_init 7 = .ok (.iload_n 2, 1) := dk_28 (dk_at dksX6_init_0 7 rfl rfl)
theorem dX6_init_8 : decode cX6_init 8 = .ok (.invokespecial 9, 3) := dk_183 0 9 (dk_at dksX6_init_0 8 rfl rfl)
theorem dX6_init_11 : decode cX6_init 11 = .ok (.return_, 1) := dk_177 (dk_at dksX6_init_0 11 rfl rfl)
abbrev cX6_kind : ByteArray := prog_2_method_2_code
def yX6_kind : MethodName := ⟨RX6, "kind", "()I"⟩
def dkwX6_kind_0 : List UInt8 := [42, 183, 0, 15, 4, 96, 172]
abbrev dktX6_kind_0 : List UInt8 := dkwX6_kind_0 ++ []
theorem dksX6_kind_0 : cX6_kind.data.toList.drop 0 = dktX6_kind_0 := by decide +kernel
theorem dX6_kind_0 : decode cX6_kind 0 = .ok (.aload_n 0, 1) := dk_42 (dk_at dksX6_kind_0 0 rfl rfl)
theorem dX6_kind_1 : decode cX6_kind 1 = .ok (.invokespecial 15, 3) := dk_183 0 15 (dk_at dksX6_kind_0 1 rfl rfl)
theorem dX6_kind_4 : decode cX6_kind 4 = .ok (.iconst 1, 1) := dk_4 (dk_at dksX6_kind_0 4 rfl rfl)
theorem dX6_kind_5 : decode cX6_kind 5 = .ok (.iadd, 1) := dk_96 (dk_at dksX6_kind_0 5 rfl rfl)
theorem dX6_kind_6 : decode cX6_kind 6 = .ok (.ireturn, 1) := dk_172 (dk_at dksX6_kind_0 6 rfl rfl)
abbrev cX6_dares : ByteArray := prog_2_method_3_code
def yX6_dares : MethodName := ⟨RX6, "dares", "(III)I"⟩
def dkwX6_dares_0 : List UInt8 := [42, 27, 28, 29, 183, 0, 19, 6, 29, 184, 0, 23, 96, 172]
abbrev dktX6_dares_0 : List UInt8 := dkwX6_dares_0 ++ []
theorem dksX6_dares_0 : cX6_dares.data.toList.drop 0 = dktX6_dares_0 := by decide +kernel
theorem dX6_dares_0 : decode cX6_dares 0 = .ok (.aload_n 0, 1) := dk_42 (dk_at dksX6_dares_0 0 rfl rfl)
theorem dX6_dares_1 : decode cX6_dares 1 = .ok (.iload_n 1, 1) := dk_27 (dk_at dksX6_dares_0 1 rfl rfl)
theorem dX6_dares_2 : decode cX6_dares 2 = .ok (.iload_n 2, 1) := dk_28 (dk_at dksX6_dares_0 2 rfl rfl)
theorem dX6_dares_3 : decode cX6_dares 3 = .ok (.iload_n 3, 1) := dk_29 (dk_at dksX6_dares_0 3 rfl rfl)
theorem dX6_dares_4 : decode cX6_dares 4 = .ok (.invokespecial 19, 3) := dk_183 0 19 (dk_at dksX6_dares_0 4 rfl rfl)
theorem dX6_dares_7 : decode cX6_dares 7 = .ok (.iconst 3, 1) := dk_6 (dk_at dksX6_dares_0 7 rfl rfl)
theorem dX6_dares_8 : decode cX6_dares 8 = .ok (.iload_n 3, 1) := dk_29 (dk_at dksX6_dares_0 8 rfl rfl)
theorem dX6_dares_9 : decode cX6_dares 9 = .ok (.invokestatic 23, 3) := dk_184 0 23 (dk_at dksX6_dares_0 9 rfl rfl)
theorem dX6_dares_12 : decode cX6_dares 12 = .ok (.iadd, 1) := dk_96 (dk_at dksX6_dares_0 12 rfl rfl)
theorem dX6_dares_13 : decode cX6_dares 13 = .ok (.ireturn, 1) := dk_172 (dk_at dksX6_dares_0 13 rfl rfl)
abbrev cX6_asBred : ByteArray := prog_2_method_4_code
def yX6_asBred : MethodName := ⟨RX6, "asBred", "()I"⟩
theorem dX6_asBred_0 : decode cX6_asBred 0 = .ok (.aload_n 0, 1) := by decide +kernel
theorem dX6_asBred_1 : decode cX6_asBred 1 = .ok (.invokespecial 29, 3) := by decide +kernel
theorem dX6_asBred_4 : decode cX6_asBred 4 = .ok (.ireturn, 1) := by decide +kernel
abbrev cX6_mark : ByteArray := prog_2_method_5_code
def yX6_mark : MethodName := ⟨RX6, "mark", "()I"⟩
def dkwX6_mark_0 : List UInt8 := [6, 42, 180, 0, 3, 3, 42, 180, 0, 32, 182, 0, 36, 184, 0, 23, 172]
abbrev dktX6_mark_0 : List UInt8 := dkwX6_mark_0 ++ []
theorem dksX6_mark_0 : cX6_mark.data.toList.drop 0 = dktX6_mark_0 := by decide +kernel
theorem dX6_mark_0 : decode cX6_mark 0 = .ok (.iconst 3, 1) := dk_6 (dk_at dksX6_mark_0 0 rfl rfl)
theorem dX6_mark_1 : decode cX6_mark 1 = .ok (.aload_n 0, 1) := dk_42 (dk_at dksX6_mark_0 1 rfl rfl)
theorem dX6_mark_2 : decode cX6_mark 2 = .ok (.getfield 3, 3) := dk_180 0 3 (dk_at dksX6_mark_0 2 rfl rfl)
theorem dX6_mark_5 : decode cX6_mark 5 = .ok (.iconst 0, 1) := dk_3 (dk_at dksX6_mark_0 5 rfl rfl)
theorem dX6_mark_6 : decode cX6_mark 6 = .ok (.aload_n 0, 1) := dk_42 (dk_at dksX6_mark_0 6 rfl rfl)
theorem dX6_mark_7 : decode cX6_mark 7 = .ok (.getfield 32, 3) := dk_180 0 32 (dk_at dksX6_mark_0 7 rfl rfl)
theorem dX6_mark_10 : decode cX6_mark 10 = .ok (.invokevirtual 36, 3) := dk_182 0 36 (dk_at dksX6_mark_0 10 rfl rfl)
theorem dX6_mark_13 : decode cX6_mark 13 = .ok (.invokestatic 23, 3) := dk_184 0 23 (dk_at dksX6_mark_0 13 rfl rfl)
theorem dX6_mark_16 : decode cX6_mark 16 = .ok (.ireturn, 1) := dk_172 (dk_at dksX6_mark_0 16 rfl rfl)
theorem q103 : (Jvm.Cond.initialized "DareFord$Bet") ∈ lw_all := lw_g (lw_at lw_m1 17 rfl) rfl
theorem q462 : (Jvm.Cond.fieldLink "DareFord$Bet" (32 : Nat) "DareFord$Bet" "number" "I") ∈ lw_all := lw_g (lw_at lw_m2 136 rfl) rfl
theorem q463 : (Jvm.Cond.sameField "DareFord$Bet" "DareFord$Person" "number" "I") ∈ lw_all := lw_g (lw_at lw_m2 137 rfl) rfl
theorem q511 : (Jvm.Cond.instantiable "DareFord$Bet" (4 : Nat)) ∈ lw_all := lw_g (lw_at lw_m2 185 rfl) rfl
theorem q513 : (Jvm.Cond.instanceMethod ({ cls := "DareFord$Bet", name := "<init>", desc := "(LDareFord;I)V" } : Jvm.MethodName)) ∈ lw_all := lw_g (lw_at lw_m2 187 rfl) rfl
theorem q514 : (Jvm.Cond.code ({ cls := "DareFord$Bet", name := "<init>", desc := "(LDareFord;I)V" } : Jvm.MethodName) prog_2_method_1_code (3 : Nat) (Option.none : Option Jvm.ClassFile.FieldType)) ∈ lw_all := lw_g (lw_at lw_m2 188 rfl) rfl
theorem q515 : (Jvm.Cond.methodLink "DareFord$Bet" (9 : Nat) ({ cls := "DareFord$Bred", name := "<init>", desc := "(LDareFord;I)V" } : Jvm.MethodName)) ∈ lw_all := lw_g (lw_at lw_m2 189 rfl) rfl
theorem q516 : (Jvm.Cond.fieldLink "DareFord$Bet" (3 : Nat) "DareFord$Bet" "this$0" "LDareFord;") ∈ lw_all := lw_g (lw_at lw_m2 190 rfl) rfl
theorem q517 : (Jvm.Cond.laysFinal "DareFord$Bet" "DareFord$Bet" "this$0" "LDareFord;") ∈ lw_all := lw_g (lw_at lw_m2 191 rfl) rfl
theorem q518 : (Jvm.Cond.soleField "DareFord$Bet" "this$0") ∈ lw_all := lw_g (lw_at lw_m2 192 rfl) rfl
theorem q519 : (Jvm.Cond.laysFinal "DareFord$Bet" "DareFord$Bred" "this$0" "LDareFord;") ∈ lw_all := lw_g (lw_at lw_m2 193 rfl) rfl
theorem q520 : (Jvm.Cond.laysFinal "DareFord$Bet" "DareFord$Person" "number" "I") ∈ lw_all := lw_g (lw_at lw_m2 194 rfl) rfl
theorem q521 : (Jvm.Cond.laysFinal "DareFord$Bet" "DareFord$Person" "this$0" "LDareFord;") ∈ lw_all := lw_g (lw_at lw_m2 195 rfl) rfl
theorem q522 : (Jvm.Cond.superclass "DareFord$Bet" "DareFord$Bred") ∈ lw_all := lw_g (lw_at lw_m2 196 rfl) rfl
theorem q552 : (Jvm.Cond.selects "DareFord$Bet" ({ cls := "DareFord$Person", name := "kind", desc := "()I" } : Jvm.MethodName) ({ cls := "DareFord$Bet", name := "kind", desc := "()I" } : Jvm.MethodName)) ∈ lw_all := lw_g (lw_at lw_m2 226 rfl) rfl
theorem q553 : (Jvm.Cond.instanceMethod ({ cls := "DareFord$Bet", name := "kind", desc := "()I" } : Jvm.MethodName)) ∈ lw_all := lw_g (lw_at lw_m2 227 rfl) rfl
theorem q554 : (Jvm.Cond.code ({ cls := "DareFord$Bet", name := "kind", desc := "()I" } : Jvm.MethodName) prog_2_method_2_code (1 : Nat) (Option.some Jvm.ClassFile.FieldType.int)) ∈ lw_all := lw_g (lw_at lw_m2 228 rfl) rfl
theorem q555 : (Jvm.Cond.methodLink "DareFord$Bet" (15 : Nat) ({ cls := "DareFord$Bred", name := "kind", desc := "()I" } : Jvm.MethodName)) ∈ lw_all := lw_g (lw_at lw_m2 229 rfl) rfl
theorem q591 : (Jvm.Cond.castable "DareFord$Bet" "DareFord$Daring") ∈ lw_tbl := lw_at lw_m3 25 rfl
theorem q592 : (Jvm.Cond.selects "DareFord$Bet" ({ cls := "DareFord$Daring", name := "dares", desc := "(III)I" } : Jvm.MethodName) ({ cls := "DareFord$Bet", name := "dares", desc := "(III)I" } : Jvm.MethodName)) ∈ lw_all := lw_g (lw_at lw_m3 26 rfl) rfl
theorem q593 : (Jvm.Cond.unhidden "DareFord$Bet" "dares" "(III)I") ∈ lw_tbl := lw_at lw_m3 27 rfl
theorem q594 : (Jvm.Cond.instanceMethod ({ cls := "DareFord$Bet", name := "dares", desc := "(III)I" } : Jvm.MethodName)) ∈ lw_all := lw_g (lw_at lw_m3 28 rfl) rfl
theorem q595 : (Jvm.Cond.publicMethod ({ cls := "DareFord$Bet", name := "dares", desc := "(III)I" } : Jvm.MethodName)) ∈ lw_tbl := lw_at lw_m3 29 rfl
theorem q596 : (Jvm.Cond.code ({ cls := "DareFord$Bet", name := "dares", desc := "(III)I" } : Jvm.MethodName) prog_2_method_3_code (4 : Nat) (Option.some Jvm.ClassFile.FieldType.int)) ∈ lw_all := lw_g (lw_at lw_m3 30 rfl) rfl
theorem q597 : (Jvm.Cond.methodLink "DareFord$Bet" (19 : Nat) ({ cls := "DareFord$Bred", name := "dares", desc := "(III)I" } : Jvm.MethodName)) ∈ lw_all := lw_g (lw_at lw_m3 31 rfl) rfl
theorem q602 : (Jvm.Cond.methodLink "DareFord$Bet" (23 : Nat) ({ cls := "java/lang/Math", name := "min", desc := "(II)I" } : Jvm.MethodName)) ∈ lw_all := lw_g (lw_at lw_m3 36 rfl) rfl
theorem q673 : (Jvm.Cond.instanceMethod ({ cls := "DareFord$Bet", name := "asBred", desc := "()I" } : Jvm.MethodName)) ∈ lw_all := lw_g (lw_at lw_m3 107 rfl) rfl
theorem q674 : (Jvm.Cond.selects "DareFord$Bet" ({ cls := "DareFord$Bet", name := "asBred", desc := "()I" } : Jvm.MethodName) ({ cls := "DareFord$Bet", name := "asBred", desc := "()I" } : Jvm.MethodName)) ∈ lw_all := lw_g (lw_at lw_m3 108 rfl) rfl
theorem q675 : (Jvm.Cond.code ({ cls := "DareFord$Bet", name := "asBred", desc := "()I" } : Jvm.MethodName) prog_2_method_4_code (1 : Nat) (Option.some Jvm.ClassFile.FieldType.int)) ∈ lw_all := lw_g (lw_at lw_m3 109 rfl) rfl
theorem q676 : (Jvm.Cond.methodLink "DareFord$Bet" (29 : Nat) ({ cls := "DareFord$Bred", name := "mark", desc := "()I" } : Jvm.MethodName)) ∈ lw_all := lw_g (lw_at lw_m3 110 rfl) rfl
theorem q680 : (Jvm.Cond.instanceMethod ({ cls := "DareFord$Bet", name := "mark", desc := "()I" } : Jvm.MethodName)) ∈ lw_all := lw_g (lw_at lw_m3 114 rfl) rfl
theorem q681 : (Jvm.Cond.code ({ cls := "DareFord$Bet", name := "mark", desc := "()I" } : Jvm.MethodName) prog_2_method_5_code (1 : Nat) (Option.some Jvm.ClassFile.FieldType.int)) ∈ lw_all := lw_g (lw_at lw_m3 115 rfl) rfl
theorem q682 : (Jvm.Cond.methodLinkNest "DareFord$Bet" (36 : Nat) ({ cls := "DareFord", name := "farOn", desc := "(II)I" } : Jvm.MethodName) "DareFord") ∈ lw_tbl := lw_at lw_m3 116 rfl
theorem q715 : (Jvm.Cond.selects "DareFord$Bet" ({ cls := "DareFord$Daring", name := "fades", desc := "()I" } : Jvm.MethodName) ({ cls := "DareFord$Bred", name := "fades", desc := "()I" } : Jvm.MethodName)) ∈ lw_all := lw_g (lw_at lw_m3 149 rfl) rfl
theorem q716 : (Jvm.Cond.unhidden "DareFord$Bet" "fades" "()I") ∈ lw_tbl := lw_at lw_m3 150 rfl
theorem q1424 : (Jvm.Cond.selects "DareFord$Bet" ({ cls := "DareFord$Bred", name := "mark", desc := "()I" } : Jvm.MethodName) ({ cls := "DareFord$Bet", name := "mark", desc := "()I" } : Jvm.MethodName)) ∈ lw_all := lw_g (lw_at lw_m6 138 rfl) rfl
theorem q1426 : (Jvm.Cond.selects "DareFord$Bet" ({ cls := "DareFord$Bet", name := "mark", desc := "()I" } : Jvm.MethodName) ({ cls := "DareFord$Bet", name := "mark", desc := "()I" } : Jvm.MethodName)) ∈ lw_all := lw_g (lw_at lw_m6 140 rfl) rfl
theorem q1431 : (Jvm.Cond.castable "DareFord$Bet" "DareFord$Bred") ∈ lw_tbl := lw_at lw_m6 145 rfl
theorem q1435 : (Jvm.Cond.castable "DareFord$Bet" "DareFord$Person") ∈ lw_tbl := lw_at lw_m6 149 rfl
theorem in_X6 : ∀ w ∈ wsX60, w ∈ lw_all := lw_in wsX60 [520, 521, 519, 517] (by decide +kernel) (by decide +kernel)

/-! DareFord$Quiet -/
set_option maxRecDepth 100000
def RX7 : String := "DareFord$Quiet"
def TX7 : u_T := fun k => match k with
  | 0 => ("DareFord$Person", "number", "I", true)
  | 1 => ("DareFord$Person", "this$0", "LDareFord;", true)
  | 2 => ("DareFord$Fearful", "this$0", "LDareFord;", true)
  | _ => ("DareFord$Quiet", "this$0", "LDareFord;", true)
def tyX7 : Nat → FieldType := fun k => match k with
  | 0 => .int
  | 1 => .object "DareFord"
  | 2 => .object "DareFord"
  | _ => .object "DareFord"
abbrev wsX70 : List Cond := u_ws RX7 TX7 4
-- two fields of one name: no nmX7
theorem tyX7_ok : ∀ k, k < 4 → parseFieldDescriptor (TX7 k).2.2.1 = some (tyX7 k) := by decide +kernel
abbrev cX7_init : ByteArray := prog_8_method_1_code
def yX7_init : MethodName := ⟨RX7, "<init>", "(LDareFord;I)V"⟩
def dkwX7_init_0 : List UInt8 := [42, 43, 181, 0, 3, 42, 43, 28, 183, 0, 9, 177]
abbrev dktX7_init_0 : List UInt8 := dkwX7_init_0 ++ []
theorem dksX7_init_0 : cX7_init.data.toList.drop 0 = dktX7_init_0 := by decide +kernel
theorem dX7_init_0 : decode cX7_init 0 = .ok (.aload_n 0, 1) := dk_42 (dk_at dksX7_init_0 0 rfl rfl)
theorem dX7_init_1 : decode cX7_init 1 = .ok (.aload_n 1, 1) := dk_43 (dk_at dksX7_init_0 1 rfl rfl)
theorem dX7_init_2 : decode cX7_init 2 = .ok (.putfield 3, 3) := dk_181 0 3 (dk_at dksX7_init_0 2 rfl rfl)
theorem dX7_init_5 : decode cX7_init 5 = .ok (.aload_n 0, 1) := dk_42 (dk_at dksX7_init_0 5 rfl rfl)
theorem dX7_init_6 : decode cX7_init 6 = .ok (.aload_n 1, 1) := dk_43 (dk_at dksX7_init_0 6 rfl rfl)
theorem dX7_init_7 : decode cX7_init 7 = .ok (.iload_n 2, 1) := dk_28 (dk_at dksX7_init_0 7 rfl rfl)
theorem dX7_init_8 : decode cX7_init 8 = .ok (.invokespecial 9, 3) := dk_183 0 9 (dk_at dksX7_init_0 8 rfl rfl)
theorem dX7_init_11 : decode cX7_init 11 = .ok (.return_, 1) := dk_177 (dk_at dksX7_init_0 11 rfl rfl)
abbrev cX7_kind : ByteArray := prog_8_method_2_code
def yX7_kind : MethodName := ⟨RX7, "kind", "()I"⟩
def dkwX7_kind_0 : List UInt8 := [42, 183, 0, 15, 6, 96, 172]
abbrev dktX7_kind_0 : List UInt8 := dkwX7_kind_0 ++ []
theorem dksX7_kind_0 : cX7_kind.data.toList.drop 0 = dktX7_kind_0 := by decide +kernel
theorem dX7_kind_0 : decode cX7_kind 0 = .ok (.aload_n 0, 1) := dk_42 (dk_at dksX7_kind_0 0 rfl rfl)
theorem dX7_kind_1 : decode cX7_kind 1 = .ok (.invokespecial 15, 3) := dk_183 0 15 (dk_at dksX7_kind_0 1 rfl rfl)
theorem dX7_kind_4 : decode cX7_kind 4 = .ok (.iconst 3, 1) := dk_6 (dk_at dksX7_kind_0 4 rfl rfl)
theorem dX7_kind_5 : decode cX7_kind 5 = .ok (.iadd, 1) := dk_96 (dk_at dksX7_kind_0 5 rfl rfl)
theorem dX7_kind_6 : decode cX7_kind 6 = .ok (.ireturn, 1) := dk_172 (dk_at dksX7_kind_0 6 rfl rfl)
abbrev cX7_dares : ByteArray := prog_8_method_3_code
def yX7_dares : MethodName := ⟨RX7, "dares", "(III)I"⟩
def dkwX7_dares_0 : List UInt8 := [3, 16, 10, 42, 27, 28, 29, 183, 0, 19, 100, 184, 0, 23, 172]
abbrev dktX7_dares_0 : List UInt8 := dkwX7_dares_0 ++ []
theorem dksX7_dares_0 : cX7_dares.data.toList.drop 0 = dktX7_dares_0 := by decide +kernel
theorem dX7_dares_0 : decode cX7_dares 0 = .ok (.iconst 0, 1) := dk_3 (dk_at dksX7_dares_0 0 rfl rfl)
theorem dX7_dares_1 : decode cX7_dares 1 = .ok (.bipush 10, 2) := dk_16 10 (dk_at dksX7_dares_0 1 rfl rfl)
theorem dX7_dares_3 : decode cX7_dares 3 = .ok (.aload_n 0, 1) := dk_42 (dk_at dksX7_dares_0 3 rfl rfl)
theorem dX7_dares_4 : decode cX7_dares 4 = .ok (.iload_n 1, 1) := dk_27 (dk_at dksX7_dares_0 4 rfl rfl)
theorem dX7_dares_5 : decode cX7_dares 5 = .ok (.iload_n 2, 1) := dk_28 (dk_at dksX7_dares_0 5 rfl rfl)
theorem dX7_dares_6 : decode cX7_dares 6 = .ok (.iload_n 3, 1) := dk_29 (dk_at dksX7_dares_0 6 rfl rfl)
theorem dX7_dares_7 : decode cX7_dares 7 = .ok (.invokespecial 19, 3) := dk_183 0 19 (dk_at dksX7_dares_0 7 rfl rfl)
theorem dX7_dares_10 : decode cX7_dares 10 = .ok (.isub, 1) := dk_100 (dk_at dksX7_dares_0 10 rfl rfl)
theorem dX7_dares_11 : decode cX7_dares 11 = .ok (.invokestatic 23, 3) := dk_184 0 23 (dk_at dksX7_dares_0 11 rfl rfl)
theorem dX7_dares_14 : decode cX7_dares 14 = .ok (.ireturn, 1) := dk_172 (dk_at dksX7_dares_0 14 rfl rfl)
abbrev cX7_asFearful : ByteArray := prog_8_method_4_code
def yX7_asFearful : MethodName := ⟨RX7, "asFearful", "()I"⟩
theorem dX7_asFearful_0 : decode cX7_asFearful 0 = .ok (.aload_n 0, 1) := by decide +kernel
theorem dX7_asFearful_1 : decode cX7_asFearful 1 = .ok (.invokespecial 29, 3) := by decide +kernel
theorem dX7_asFearful_4 : decode cX7_asFearful 4 = .ok (.ireturn, 1) := by decide +kernel
abbrev cX7_mark : ByteArray := prog_8_method_5_code
def yX7_mark : MethodName := ⟨RX7, "mark", "()I"⟩
def dkwX7_mark_1 : List UInt8 := [42, 180, 0, 3, 3, 42, 180, 0, 36, 182, 0, 40, 183, 0, 19, 172]
abbrev dktX7_mark_1 : List UInt8 := dkwX7_mark_1 ++ []
def dkwX7_mark_0 : List UInt8 := [42, 42, 180, 0, 3, 180, 0, 32, 5, 42, 180, 0, 36, 96, 46, 42, 180, 0, 3, 180, 0, 32, 3, 46]
abbrev dktX7_mark_0 : List UInt8 := dkwX7_mark_0 ++ dktX7_mark_1
theorem dksX7_mark_0 : cX7_mark.data.toList.drop 0 = dktX7_mark_0 := by decide +kernel
theorem dksX7_mark_1 : cX7_mark.data.toList.drop 24 = dktX7_mark_1 := dk_seg dksX7_mark_0 24 rfl rfl
theorem dX7_mark_0 : decode cX7_mark 0 = .ok (.aload_n 0, 1) := dk_42 (dk_at dksX7_mark_0 0 rfl rfl)
theorem dX7_mark_1 : decode cX7_mark 1 = .ok (.aload_n 0, 1) := dk_42 (dk_at dksX7_mark_0 1 rfl rfl)
theorem dX7_mark_2 : decode cX7_mark 2 = .ok (.getfield 3, 3) := dk_180 0 3 (dk_at dksX7_mark_0 2 rfl rfl)
theorem dX7_mark_5 : decode cX7_mark 5 = .ok (.getfield 32, 3) := dk_180 0 32 (dk_at dksX7_mark_0 5 rfl rfl)
theorem dX7_mark_8 : decode cX7_mark 8 = .ok (.iconst 2, 1) := dk_5 (dk_at dksX7_mark_0 8 rfl rfl)
theorem dX7_mark_9 : decode cX7_mark 9 = .ok (.aload_n 0, 1) := dk_42 (dk_at dksX7_mark_0 9 rfl rfl)
theorem dX7_mark_10 : decode cX7_mark 10 = .ok (.getfield 36, 3) := dk_180 0 36 (dk_at dksX7_mark_0 10 rfl rfl)
theorem dX7_mark_13 : decode cX7_mark 13 = .ok (.iadd, 1) := dk_96 (dk_at dksX7_mark_0 13 rfl rfl)
theorem dX7_mark_14 : decode cX7_mark 14 = .ok (.iaload, 1) := dk_46 (dk_at dksX7_mark_0 14 rfl rfl)
theorem dX7_mark_15 : decode cX7_mark 15 = .ok (.aload_n 0, 1) := dk_42 (dk_at dksX7_mark_0 15 rfl rfl)
theorem dX7_mark_16 : decode cX7_mark 16 = .ok (.getfield 3, 3) := dk_180 0 3 (dk_at dksX7_mark_0 16 rfl rfl)
theorem dX7_mark_19 : decode cX7_mark 19 = .ok (.getfield 32, 3) := dk_180 0 32 (dk_at dksX7_mark_0 19 rfl rfl)
theorem dX7_mark_22 : decode cX7_mark 22 = .ok (.iconst 0, 1) := dk_3 (dk_at dksX7_mark_0 22 rfl rfl)
theorem dX7_mark_23 : decode cX7_mark 23 = .ok (.iaload, 1) := dk_46 (dk_at dksX7_mark_0 23 rfl rfl)
theorem dX7_mark_24 : decode cX7_mark 24 = .ok (.aload_n 0, 1) := dk_42 (dk_at dksX7_mark_1 0 rfl rfl)
theorem dX7_mark_25 : decode cX7_mark 25 = .ok (.getfield 3, 3) := dk_180 0 3 (dk_at dksX7_mark_1 1 rfl rfl)
theorem dX7_mark_28 : decode cX7_mark 28 = .ok (.iconst 0, 1) := dk_3 (dk_at dksX7_mark_1 4 rfl rfl)
theorem dX7_mark_29 : decode cX7_mark 29 = .ok (.aload_n 0, 1) := dk_42 (dk_at dksX7_mark_1 5 rfl rfl)
theorem dX7_mark_30 : decode cX7_mark 30 = .ok (.getfield 36, 3) := dk_180 0 36 (dk_at dksX7_mark_1 6 rfl rfl)
theorem dX7_mark_33 : decode cX7_mark 33 = .ok (.invokevirtual 40, 3) := dk_182 0 40 (dk_at dksX7_mark_1 9 rfl rfl)
theorem dX7_mark_36 : decode cX7_mark 36 = .ok (.invokespecial 19, 3) := dk_183 0 19 (dk_at dksX7_mark_1 12 rfl rfl)
theorem dX7_mark_39 : decode cX7_mark 39 = .ok (.ireturn, 1) := dk_172 (dk_at dksX7_mark_1 15 rfl rfl)
theorem q104 : (Jvm.Cond.initialized "DareFord$Quiet") ∈ lw_all := lw_g (lw_at lw_m1 18 rfl) rfl
theorem q137 : (Jvm.Cond.fieldLinkNest "DareFord$Quiet" (32 : Nat) "DareFord" "at" "[I" "DareFord") ∈ lw_tbl := lw_at lw_m1 51 rfl
theorem q464 : (Jvm.Cond.fieldLink "DareFord$Quiet" (36 : Nat) "DareFord$Quiet" "number" "I") ∈ lw_all := lw_g (lw_at lw_m2 138 rfl) rfl
theorem q465 : (Jvm.Cond.sameField "DareFord$Quiet" "DareFord$Person" "number" "I") ∈ lw_all := lw_g (lw_at lw_m2 139 rfl) rfl
theorem q524 : (Jvm.Cond.instantiable "DareFord$Quiet" (4 : Nat)) ∈ lw_all := lw_g (lw_at lw_m2 198 rfl) rfl
theorem q526 : (Jvm.Cond.instanceMethod ({ cls := "DareFord$Quiet", name := "<init>", desc := "(LDareFord;I)V" } : Jvm.MethodName)) ∈ lw_all := lw_g (lw_at lw_m2 200 rfl) rfl
theorem q527 : (Jvm.Cond.code ({ cls := "DareFord$Quiet", name := "<init>", desc := "(LDareFord;I)V" } : Jvm.MethodName) prog_8_method_1_code (3 : Nat) (Option.none : Option Jvm.ClassFile.FieldType)) ∈ lw_all := lw_g (lw_at lw_m2 201 rfl) rfl
theorem q528 : (Jvm.Cond.methodLink "DareFord$Quiet" (9 : Nat) ({ cls := "DareFord$Fearful", name := "<init>", desc := "(LDareFord;I)V" } : Jvm.MethodName)) ∈ lw_all := lw_g (lw_at lw_m2 202 rfl) rfl
theorem q529 : (Jvm.Cond.fieldLink "DareFord$Quiet" (3 : Nat) "DareFord$Quiet" "this$0" "LDareFord;") ∈ lw_all := lw_g (lw_at lw_m2 203 rfl) rfl
theorem q530 : (Jvm.Cond.laysFinal "DareFord$Quiet" "DareFord$Quiet" "this$0" "LDareFord;") ∈ lw_all := lw_g (lw_at lw_m2 204 rfl) rfl
theorem q531 : (Jvm.Cond.soleField "DareFord$Quiet" "this$0") ∈ lw_all := lw_g (lw_at lw_m2 205 rfl) rfl
theorem q532 : (Jvm.Cond.laysFinal "DareFord$Quiet" "DareFord$Fearful" "this$0" "LDareFord;") ∈ lw_all := lw_g (lw_at lw_m2 206 rfl) rfl
theorem q533 : (Jvm.Cond.laysFinal "DareFord$Quiet" "DareFord$Person" "number" "I") ∈ lw_all := lw_g (lw_at lw_m2 207 rfl) rfl
theorem q534 : (Jvm.Cond.laysFinal "DareFord$Quiet" "DareFord$Person" "this$0" "LDareFord;") ∈ lw_all := lw_g (lw_at lw_m2 208 rfl) rfl
theorem q535 : (Jvm.Cond.superclass "DareFord$Quiet" "DareFord$Fearful") ∈ lw_all := lw_g (lw_at lw_m2 209 rfl) rfl
theorem q569 : (Jvm.Cond.selects "DareFord$Quiet" ({ cls := "DareFord$Person", name := "kind", desc := "()I" } : Jvm.MethodName) ({ cls := "DareFord$Quiet", name := "kind", desc := "()I" } : Jvm.MethodName)) ∈ lw_all := lw_g (lw_at lw_m3 3 rfl) rfl
theorem q570 : (Jvm.Cond.instanceMethod ({ cls := "DareFord$Quiet", name := "kind", desc := "()I" } : Jvm.MethodName)) ∈ lw_all := lw_g (lw_at lw_m3 4 rfl) rfl
theorem q571 : (Jvm.Cond.code ({ cls := "DareFord$Quiet", name := "kind", desc := "()I" } : Jvm.MethodName) prog_8_method_2_code (1 : Nat) (Option.some Jvm.ClassFile.FieldType.int)) ∈ lw_all := lw_g (lw_at lw_m3 5 rfl) rfl
theorem q572 : (Jvm.Cond.methodLink "DareFord$Quiet" (15 : Nat) ({ cls := "DareFord$Fearful", name := "kind", desc := "()I" } : Jvm.MethodName)) ∈ lw_all := lw_g (lw_at lw_m3 6 rfl) rfl
theorem q626 : (Jvm.Cond.castable "DareFord$Quiet" "DareFord$Daring") ∈ lw_tbl := lw_at lw_m3 60 rfl
theorem q627 : (Jvm.Cond.selects "DareFord$Quiet" ({ cls := "DareFord$Daring", name := "dares", desc := "(III)I" } : Jvm.MethodName) ({ cls := "DareFord$Quiet", name := "dares", desc := "(III)I" } : Jvm.MethodName)) ∈ lw_all := lw_g (lw_at lw_m3 61 rfl) rfl
theorem q628 : (Jvm.Cond.unhidden "DareFord$Quiet" "dares" "(III)I") ∈ lw_tbl := lw_at lw_m3 62 rfl
theorem q629 : (Jvm.Cond.instanceMethod ({ cls := "DareFord$Quiet", name := "dares", desc := "(III)I" } : Jvm.MethodName)) ∈ lw_all := lw_g (lw_at lw_m3 63 rfl) rfl
theorem q630 : (Jvm.Cond.publicMethod ({ cls := "DareFord$Quiet", name := "dares", desc := "(III)I" } : Jvm.MethodName)) ∈ lw_tbl := lw_at lw_m3 64 rfl
theorem q631 : (Jvm.Cond.code ({ cls := "DareFord$Quiet", name := "dares", desc := "(III)I" } : Jvm.MethodName) prog_8_method_3_code (4 : Nat) (Option.some Jvm.ClassFile.FieldType.int)) ∈ lw_all := lw_g (lw_at lw_m3 65 rfl) rfl
theorem q632 : (Jvm.Cond.methodLink "DareFord$Quiet" (19 : Nat) ({ cls := "DareFord$Fearful", name := "dares", desc := "(III)I" } : Jvm.MethodName)) ∈ lw_all := lw_g (lw_at lw_m3 66 rfl) rfl
theorem q633 : (Jvm.Cond.methodLink "DareFord$Quiet" (23 : Nat) ({ cls := "java/lang/Math", name := "max", desc := "(II)I" } : Jvm.MethodName)) ∈ lw_all := lw_g (lw_at lw_m3 67 rfl) rfl
theorem q661 : (Jvm.Cond.instanceMethod ({ cls := "DareFord$Quiet", name := "asFearful", desc := "()I" } : Jvm.MethodName)) ∈ lw_all := lw_g (lw_at lw_m3 95 rfl) rfl
theorem q662 : (Jvm.Cond.selects "DareFord$Quiet" ({ cls := "DareFord$Quiet", name := "asFearful", desc := "()I" } : Jvm.MethodName) ({ cls := "DareFord$Quiet", name := "asFearful", desc := "()I" } : Jvm.MethodName)) ∈ lw_all := lw_g (lw_at lw_m3 96 rfl) rfl
theorem q663 : (Jvm.Cond.code ({ cls := "DareFord$Quiet", name := "asFearful", desc := "()I" } : Jvm.MethodName) prog_8_method_4_code (1 : Nat) (Option.some Jvm.ClassFile.FieldType.int)) ∈ lw_all := lw_g (lw_at lw_m3 97 rfl) rfl
theorem q664 : (Jvm.Cond.methodLink "DareFord$Quiet" (29 : Nat) ({ cls := "DareFord$Fearful", name := "mark", desc := "()I" } : Jvm.MethodName)) ∈ lw_all := lw_g (lw_at lw_m3 98 rfl) rfl
theorem q669 : (Jvm.Cond.instanceMethod ({ cls := "DareFord$Quiet", name := "mark", desc := "()I" } : Jvm.MethodName)) ∈ lw_all := lw_g (lw_at lw_m3 103 rfl) rfl
theorem q670 : (Jvm.Cond.code ({ cls := "DareFord$Quiet", name := "mark", desc := "()I" } : Jvm.MethodName) prog_8_method_5_code (1 : Nat) (Option.some Jvm.ClassFile.FieldType.int)) ∈ lw_all := lw_g (lw_at lw_m3 104 rfl) rfl
theorem q671 : (Jvm.Cond.methodLinkNest "DareFord$Quiet" (40 : Nat) ({ cls := "DareFord", name := "farOn", desc := "(II)I" } : Jvm.MethodName) "DareFord") ∈ lw_tbl := lw_at lw_m3 105 rfl
theorem q732 : (Jvm.Cond.selects "DareFord$Quiet" ({ cls := "DareFord$Daring", name := "fades", desc := "()I" } : Jvm.MethodName) ({ cls := "DareFord$Fearful", name := "fades", desc := "()I" } : Jvm.MethodName)) ∈ lw_all := lw_g (lw_at lw_m3 166 rfl) rfl
theorem q733 : (Jvm.Cond.unhidden "DareFord$Quiet" "fades" "()I") ∈ lw_tbl := lw_at lw_m3 167 rfl
theorem q1422 : (Jvm.Cond.selects "DareFord$Quiet" ({ cls := "DareFord$Fearful", name := "mark", desc := "()I" } : Jvm.MethodName) ({ cls := "DareFord$Quiet", name := "mark", desc := "()I" } : Jvm.MethodName)) ∈ lw_all := lw_g (lw_at lw_m6 136 rfl) rfl
theorem q1427 : (Jvm.Cond.selects "DareFord$Quiet" ({ cls := "DareFord$Quiet", name := "mark", desc := "()I" } : Jvm.MethodName) ({ cls := "DareFord$Quiet", name := "mark", desc := "()I" } : Jvm.MethodName)) ∈ lw_all := lw_g (lw_at lw_m6 141 rfl) rfl
theorem q1430 : (Jvm.Cond.castable "DareFord$Quiet" "DareFord$Fearful") ∈ lw_tbl := lw_at lw_m6 144 rfl
theorem q1436 : (Jvm.Cond.castable "DareFord$Quiet" "DareFord$Person") ∈ lw_tbl := lw_at lw_m6 150 rfl
theorem in_X7 : ∀ w ∈ wsX70, w ∈ lw_all := lw_in wsX70 [533, 534, 532, 530] (by decide +kernel) (by decide +kernel)

/-! DareFord$Daring -/
set_option maxRecDepth 100000
def RX8 : String := "DareFord$Daring"
abbrev cX8_fades : ByteArray := prog_4_method_2_code
def yX8_fades : MethodName := ⟨RX8, "fades", "()I"⟩
theorem dX8_fades_0 : decode cX8_fades 0 = .ok (.iconst 1, 1) := by decide +kernel
theorem dX8_fades_1 : decode cX8_fades 1 = .ok (.ireturn, 1) := by decide +kernel
theorem q589 : (Jvm.Cond.interfaceMethod "DareFord$Daring" "DareFord$Daring" "dares" "(III)I") ∈ lw_tbl := lw_at lw_m3 23 rfl
theorem q590 : (Jvm.Cond.declares ({ cls := "DareFord$Daring", name := "dares", desc := "(III)I" } : Jvm.MethodName)) ∈ lw_tbl := lw_at lw_m3 24 rfl
theorem q713 : (Jvm.Cond.interfaceMethod "DareFord$Daring" "DareFord$Daring" "fades" "()I") ∈ lw_tbl := lw_at lw_m3 147 rfl
theorem q714 : (Jvm.Cond.declares ({ cls := "DareFord$Daring", name := "fades", desc := "()I" } : Jvm.MethodName)) ∈ lw_tbl := lw_at lw_m3 148 rfl
theorem q723 : (Jvm.Cond.instanceMethod ({ cls := "DareFord$Daring", name := "fades", desc := "()I" } : Jvm.MethodName)) ∈ lw_all := lw_g (lw_at lw_m3 157 rfl) rfl
theorem q724 : (Jvm.Cond.publicMethod ({ cls := "DareFord$Daring", name := "fades", desc := "()I" } : Jvm.MethodName)) ∈ lw_tbl := lw_at lw_m3 158 rfl
theorem q725 : (Jvm.Cond.code ({ cls := "DareFord$Daring", name := "fades", desc := "()I" } : Jvm.MethodName) prog_4_method_2_code (1 : Nat) (Option.some Jvm.ClassFile.FieldType.int)) ∈ lw_all := lw_g (lw_at lw_m3 159 rfl) rfl
theorem q1428 : (Jvm.Cond.initialized "DareFord$Daring") ∈ lw_all := lw_g (lw_at lw_m6 142 rfl) rfl

/-! java/lang/Math -/
set_option maxRecDepth 100000
def RJ9 : String := "java/lang/Math"
abbrev cJ9_abs : ByteArray := prog_16_method_59_code
def yJ9_abs : MethodName := ⟨RJ9, "abs", "(I)I"⟩
def dkwJ9_abs_0 : List UInt8 := [26, 156, 0, 8, 26, 116, 167, 0, 4, 26, 172]
abbrev dktJ9_abs_0 : List UInt8 := dkwJ9_abs_0 ++ []
theorem dksJ9_abs_0 : cJ9_abs.data.toList.drop 0 = dktJ9_abs_0 := by decide +kernel
theorem dJ9_abs_0 : decode cJ9_abs 0 = .ok (.iload_n 0, 1) := dk_26 (dk_at dksJ9_abs_0 0 rfl rfl)
theorem dJ9_abs_1 : decode cJ9_abs 1 = .ok (.ifCond .ge 8, 3) := dk_156 0 8 (dk_at dksJ9_abs_0 1 rfl rfl)
theorem dJ9_abs_4 : decode cJ9_abs 4 = .ok (.iload_n 0, 1) := dk_26 (dk_at dksJ9_abs_0 4 rfl rfl)
theorem dJ9_abs_5 : decode cJ9_abs 5 = .ok (.ineg, 1) := dk_116 (dk_at dksJ9_abs_0 5 rfl rfl)
theorem dJ9_abs_6 : decode cJ9_abs 6 = .ok (.goto 4, 3) := dk_167 0 4 (dk_at dksJ9_abs_0 6 rfl rfl)
theorem dJ9_abs_9 : decode cJ9_abs 9 = .ok (.iload_n 0, 1) := dk_26 (dk_at dksJ9_abs_0 9 rfl rfl)
theorem dJ9_abs_10 : decode cJ9_abs 10 = .ok (.ireturn, 1) := dk_172 (dk_at dksJ9_abs_0 10 rfl rfl)
abbrev cJ9_min : ByteArray := prog_16_method_69_code
def yJ9_min : MethodName := ⟨RJ9, "min", "(II)I"⟩
def dkwJ9_min_0 : List UInt8 := [26, 27, 163, 0, 7, 26, 167, 0, 4, 27, 172]
abbrev dktJ9_min_0 : List UInt8 := dkwJ9_min_0 ++ []
theorem dksJ9_min_0 : cJ9_min.data.toList.drop 0 = dktJ9_min_0 := by decide +kernel
theorem dJ9_min_0 : decode cJ9_min 0 = .ok (.iload_n 0, 1) := dk_26 (dk_at dksJ9_min_0 0 rfl rfl)
theorem dJ9_min_1 : decode cJ9_min 1 = .ok (.iload_n 1, 1) := dk_27 (dk_at dksJ9_min_0 1 rfl rfl)
theorem dJ9_min_2 : decode cJ9_min 2 = .ok (.if_icmp .gt 7, 3) := dk_163 0 7 (dk_at dksJ9_min_0 2 rfl rfl)
theorem dJ9_min_5 : decode cJ9_min 5 = .ok (.iload_n 0, 1) := dk_26 (dk_at dksJ9_min_0 5 rfl rfl)
theorem dJ9_min_6 : decode cJ9_min 6 = .ok (.goto 4, 3) := dk_167 0 4 (dk_at dksJ9_min_0 6 rfl rfl)
theorem dJ9_min_9 : decode cJ9_min 9 = .ok (.iload_n 1, 1) := dk_27 (dk_at dksJ9_min_0 9 rfl rfl)
theorem dJ9_min_10 : decode cJ9_min 10 = .ok (.ireturn, 1) := dk_172 (dk_at dksJ9_min_0 10 rfl rfl)
abbrev cJ9_max : ByteArray := prog_16_method_65_code
def yJ9_max : MethodName := ⟨RJ9, "max", "(II)I"⟩
def dkwJ9_max_0 : List UInt8 := [26, 27, 161, 0, 7, 26, 167, 0, 4, 27, 172]
abbrev dktJ9_max_0 : List UInt8 := dkwJ9_max_0 ++ []
theorem dksJ9_max_0 : cJ9_max.data.toList.drop 0 = dktJ9_max_0 := by decide +kernel
theorem dJ9_max_0 : decode cJ9_max 0 = .ok (.iload_n 0, 1) := dk_26 (dk_at dksJ9_max_0 0 rfl rfl)
theorem dJ9_max_1 : decode cJ9_max 1 = .ok (.iload_n 1, 1) := dk_27 (dk_at dksJ9_max_0 1 rfl rfl)
theorem dJ9_max_2 : decode cJ9_max 2 = .ok (.if_icmp .lt 7, 3) := dk_161 0 7 (dk_at dksJ9_max_0 2 rfl rfl)
theorem dJ9_max_5 : decode cJ9_max 5 = .ok (.iload_n 0, 1) := dk_26 (dk_at dksJ9_max_0 5 rfl rfl)
theorem dJ9_max_6 : decode cJ9_max 6 = .ok (.goto 4, 3) := dk_167 0 4 (dk_at dksJ9_max_0 6 rfl rfl)
theorem dJ9_max_9 : decode cJ9_max 9 = .ok (.iload_n 1, 1) := dk_27 (dk_at dksJ9_max_0 9 rfl rfl)
theorem dJ9_max_10 : decode cJ9_max 10 = .ok (.ireturn, 1) := dk_172 (dk_at dksJ9_max_0 10 rfl rfl)
abbrev cJ9_min_2 : ByteArray := prog_16_method_70_code
def yJ9_min_2 : MethodName := ⟨RJ9, "min", "(JJ)J"⟩
def dkwJ9_min_2_0 : List UInt8 := [30, 32, 148, 157, 0, 7, 30, 167, 0, 4, 32, 173]
abbrev dktJ9_min_2_0 : List UInt8 := dkwJ9_min_2_0 ++ []
theorem dksJ9_min_2_0 : cJ9_min_2.data.toList.drop 0 = dktJ9_min_2_0 := by decide +kernel
theorem dJ9_min_2_0 : decode cJ9_min_2 0 = .ok (.lload_n 0, 1) := dk_30 (dk_at dksJ9_min_2_0 0 rfl rfl)
theorem dJ9_min_2_1 : decode cJ9_min_2 1 = .ok (.lload_n 2, 1) := dk_32 (dk_at dksJ9_min_2_0 1 rfl rfl)
theorem dJ9_min_2_2 : decode cJ9_min_2 2 = .ok (.lcmp, 1) := dk_148 (dk_at dksJ9_min_2_0 2 rfl rfl)
theorem dJ9_min_2_3 : decode cJ9_min_2 3 = .ok (.ifCond .gt 7, 3) := dk_157 0 7 (dk_at dksJ9_min_2_0 3 rfl rfl)
theorem dJ9_min_2_6 : decode cJ9_min_2 6 = .ok (.lload_n 0, 1) := dk_30 (dk_at dksJ9_min_2_0 6 rfl rfl)
theorem dJ9_min_2_7 : decode cJ9_min_2 7 = .ok (.goto 4, 3) := dk_167 0 4 (dk_at dksJ9_min_2_0 7 rfl rfl)
theorem dJ9_min_2_10 : decode cJ9_min_2 10 = .ok (.lload_n 2, 1) := dk_32 (dk_at dksJ9_min_2_0 10 rfl rfl)
theorem dJ9_min_2_11 : decode cJ9_min_2 11 = .ok (.lreturn, 1) := dk_173 (dk_at dksJ9_min_2_0 11 rfl rfl)
theorem q105 : (Jvm.Cond.initialized "java/lang/Math") ∈ lw_all := lw_g (lw_at lw_m1 19 rfl) rfl
theorem q582 : (Jvm.Cond.static ({ cls := "java/lang/Math", name := "abs", desc := "(I)I" } : Jvm.MethodName)) ∈ lw_all := lw_g (lw_at lw_m3 16 rfl) rfl
theorem q583 : (Jvm.Cond.code ({ cls := "java/lang/Math", name := "abs", desc := "(I)I" } : Jvm.MethodName) prog_16_method_59_code (1 : Nat) (Option.some Jvm.ClassFile.FieldType.int)) ∈ lw_all := lw_g (lw_at lw_m3 17 rfl) rfl
theorem q603 : (Jvm.Cond.static ({ cls := "java/lang/Math", name := "min", desc := "(II)I" } : Jvm.MethodName)) ∈ lw_all := lw_g (lw_at lw_m3 37 rfl) rfl
theorem q604 : (Jvm.Cond.code ({ cls := "java/lang/Math", name := "min", desc := "(II)I" } : Jvm.MethodName) prog_16_method_69_code (2 : Nat) (Option.some Jvm.ClassFile.FieldType.int)) ∈ lw_all := lw_g (lw_at lw_m3 38 rfl) rfl
theorem q634 : (Jvm.Cond.static ({ cls := "java/lang/Math", name := "max", desc := "(II)I" } : Jvm.MethodName)) ∈ lw_all := lw_g (lw_at lw_m3 68 rfl) rfl
theorem q635 : (Jvm.Cond.code ({ cls := "java/lang/Math", name := "max", desc := "(II)I" } : Jvm.MethodName) prog_16_method_65_code (2 : Nat) (Option.some Jvm.ClassFile.FieldType.int)) ∈ lw_all := lw_g (lw_at lw_m3 69 rfl) rfl
theorem q895 : (Jvm.Cond.static ({ cls := "java/lang/Math", name := "min", desc := "(JJ)J" } : Jvm.MethodName)) ∈ lw_all := lw_g (lw_at lw_m4 89 rfl) rfl
theorem q896 : (Jvm.Cond.code ({ cls := "java/lang/Math", name := "min", desc := "(JJ)J" } : Jvm.MethodName) prog_16_method_70_code (4 : Nat) (Option.some Jvm.ClassFile.FieldType.long)) ∈ lw_all := lw_g (lw_at lw_m4 90 rfl) rfl

/-! java/lang/Object -/
set_option maxRecDepth 100000
def RJ11 : String := "java/lang/Object"
abbrev cJ11_init : ByteArray := object_method_1_code
def yJ11_init : MethodName := ⟨RJ11, "<init>", "()V"⟩
theorem dJ11_init_0 : decode cJ11_init 0 = .ok (.return_, 1) := by decide +kernel
theorem q117 : (Jvm.Cond.instanceMethod ({ cls := "java/lang/Object", name := "<init>", desc := "()V" } : Jvm.MethodName)) ∈ lw_all := lw_g (lw_at lw_m1 31 rfl) rfl
theorem q118 : (Jvm.Cond.code ({ cls := "java/lang/Object", name := "<init>", desc := "()V" } : Jvm.MethodName) object_method_1_code (1 : Nat) (Option.none : Option Jvm.ClassFile.FieldType)) ∈ lw_all := lw_g (lw_at lw_m1 32 rfl) rfl

theorem q97 : (Jvm.Cond.initialized "java/lang/System") ∈ lw_all := lw_g (lw_at lw_m1 11 rfl) rfl
set_option maxRecDepth 100000
theorem q380 : (Jvm.Cond.static ({ cls := "java/lang/System", name := "arraycopy", desc := "(Ljava/lang/Object;ILjava/lang/Object;II)V" } : Jvm.MethodName)) ∈ lw_all := lw_g (lw_at lw_m2 54 rfl) rfl
theorem q381 : (Jvm.Cond.native ({ cls := "java/lang/System", name := "arraycopy", desc := "(Ljava/lang/Object;ILjava/lang/Object;II)V" } : Jvm.MethodName)) ∈ lw_all := lw_g (lw_at lw_m2 55 rfl) rfl

theorem q120 : (Jvm.Cond.arrayOver (Jvm.ClassFile.FieldType.array Jvm.ClassFile.FieldType.int)) ∈ lw_tbl := lw_at lw_m1 34 rfl
set_option maxRecDepth 100000
theorem q122 : (Jvm.Cond.arrayOver (Jvm.ClassFile.FieldType.array Jvm.ClassFile.FieldType.byte)) ∈ lw_tbl := lw_at lw_m1 36 rfl
theorem q124 : (Jvm.Cond.arrayOver (Jvm.ClassFile.FieldType.object "DareFord$Person")) ∈ lw_tbl := lw_at lw_m1 38 rfl
theorem q206 : (Jvm.Cond.arrayClass Jvm.ClassFile.FieldType.int) ∈ lw_all := lw_g (lw_at lw_m1 120 rfl) rfl
theorem q300 : (Jvm.Cond.arrayClass Jvm.ClassFile.FieldType.byte) ∈ lw_all := lw_g (lw_at lw_m1 214 rfl) rfl

theorem q86 : (Jvm.Cond.initialized "DareFordLaw") ∈ lw_all := lw_g (lw_at lw_m1 0 rfl) rfl
set_option maxRecDepth 100000
theorem q107 : (Jvm.Cond.methodLink "DareFordLaw" (159 : Nat) ({ cls := "DareFord", name := "asked", desc := "()I" } : Jvm.MethodName)) ∈ lw_all := lw_g (lw_at lw_m1 21 rfl) rfl
theorem q111 : (Jvm.Cond.classLink "DareFordLaw" (7 : Nat) "DareFord") ∈ lw_all := lw_g (lw_at lw_m1 25 rfl) rfl
theorem q113 : (Jvm.Cond.methodLink "DareFordLaw" (9 : Nat) ({ cls := "DareFord", name := "<init>", desc := "()V" } : Jvm.MethodName)) ∈ lw_all := lw_g (lw_at lw_m1 27 rfl) rfl
theorem q207 : (Jvm.Cond.methodLink "DareFordLaw" (163 : Nat) ({ cls := "DareFord", name := "upper", desc := "()J" } : Jvm.MethodName)) ∈ lw_all := lw_g (lw_at lw_m1 121 rfl) rfl
theorem q211 : (Jvm.Cond.methodLink "DareFordLaw" (168 : Nat) ({ cls := "DareFord", name := "lower", desc := "()J" } : Jvm.MethodName)) ∈ lw_all := lw_g (lw_at lw_m1 125 rfl) rfl
theorem q215 : (Jvm.Cond.methodLink "DareFordLaw" (13 : Nat) ({ cls := "DareFord", name := "row", desc := "(II)I" } : Jvm.MethodName)) ∈ lw_all := lw_g (lw_at lw_m1 129 rfl) rfl
theorem q315 : (Jvm.Cond.methodLink "DareFordLaw" (18 : Nat) ({ cls := "DareFord", name := "lay", desc := "(III)I" } : Jvm.MethodName)) ∈ lw_all := lw_g (lw_at lw_m1 229 rfl) rfl
theorem q367 : (Jvm.Cond.methodLink "DareFordLaw" (23 : Nat) ({ cls := "DareFord", name := "at", desc := "(II)I" } : Jvm.MethodName)) ∈ lw_all := lw_g (lw_at lw_m2 41 rfl) rfl
theorem q371 : (Jvm.Cond.methodLink "DareFordLaw" (27 : Nat) ({ cls := "DareFord", name := "tear", desc := "(I)I" } : Jvm.MethodName)) ∈ lw_all := lw_g (lw_at lw_m2 45 rfl) rfl
theorem q375 : (Jvm.Cond.methodLink "DareFordLaw" (32 : Nat) ({ cls := "DareFord", name := "copy", desc := "(IIIII)I" } : Jvm.MethodName)) ∈ lw_all := lw_g (lw_at lw_m2 49 rfl) rfl
theorem q382 : (Jvm.Cond.methodLink "DareFordLaw" (37 : Nat) ({ cls := "DareFord", name := "mean", desc := "(I)I" } : Jvm.MethodName)) ∈ lw_all := lw_g (lw_at lw_m2 56 rfl) rfl
theorem q400 : (Jvm.Cond.methodLink "DareFordLaw" (41 : Nat) ({ cls := "DareFord", name := "text", desc := "(II)I" } : Jvm.MethodName)) ∈ lw_all := lw_g (lw_at lw_m2 74 rfl) rfl
theorem q407 : (Jvm.Cond.methodLink "DareFordLaw" (45 : Nat) ({ cls := "DareFord", name := "put", desc := "(III)I" } : Jvm.MethodName)) ∈ lw_all := lw_g (lw_at lw_m2 81 rfl) rfl
theorem q411 : (Jvm.Cond.methodLink "DareFordLaw" (49 : Nat) ({ cls := "DareFord", name := "fault", desc := "(I)I" } : Jvm.MethodName)) ∈ lw_all := lw_g (lw_at lw_m2 85 rfl) rfl
theorem q444 : (Jvm.Cond.methodLink "DareFordLaw" (53 : Nat) ({ cls := "DareFord", name := "river", desc := "(I)I" } : Jvm.MethodName)) ∈ lw_all := lw_g (lw_at lw_m2 118 rfl) rfl
theorem q536 : (Jvm.Cond.methodLink "DareFordLaw" (57 : Nat) ({ cls := "DareFord", name := "one", desc := "(II)I" } : Jvm.MethodName)) ∈ lw_all := lw_g (lw_at lw_m2 210 rfl) rfl
theorem q636 : (Jvm.Cond.methodLink "DareFordLaw" (61 : Nat) ({ cls := "DareFord", name := "mark", desc := "(II)I" } : Jvm.MethodName)) ∈ lw_all := lw_g (lw_at lw_m3 70 rfl) rfl
theorem q685 : (Jvm.Cond.methodLink "DareFordLaw" (65 : Nat) ({ cls := "DareFord", name := "night", desc := "()I" } : Jvm.MethodName)) ∈ lw_all := lw_g (lw_at lw_m3 119 rfl) rfl
theorem q735 : (Jvm.Cond.methodLink "DareFordLaw" (70 : Nat) ({ cls := "DareFord", name := "raise", desc := "(II)I" } : Jvm.MethodName)) ∈ lw_all := lw_g (lw_at lw_m3 169 rfl) rfl
theorem q743 : (Jvm.Cond.methodLink "DareFordLaw" (74 : Nat) ({ cls := "DareFord", name := "shame", desc := "(II)I" } : Jvm.MethodName)) ∈ lw_all := lw_g (lw_at lw_m3 177 rfl) rfl
theorem q747 : (Jvm.Cond.methodLink "DareFordLaw" (78 : Nat) ({ cls := "DareFord", name := "door", desc := "(II)I" } : Jvm.MethodName)) ∈ lw_all := lw_g (lw_at lw_m3 181 rfl) rfl
theorem q751 : (Jvm.Cond.methodLink "DareFordLaw" (82 : Nat) ({ cls := "DareFord", name := "undo", desc := "(I)I" } : Jvm.MethodName)) ∈ lw_all := lw_g (lw_at lw_m3 185 rfl) rfl
theorem q755 : (Jvm.Cond.methodLink "DareFordLaw" (86 : Nat) ({ cls := "DareFord", name := "keep", desc := "(I)I" } : Jvm.MethodName)) ∈ lw_all := lw_g (lw_at lw_m3 189 rfl) rfl
theorem q759 : (Jvm.Cond.methodLink "DareFordLaw" (90 : Nat) ({ cls := "DareFord", name := "on", desc := "(I)I" } : Jvm.MethodName)) ∈ lw_all := lw_g (lw_at lw_m3 193 rfl) rfl
theorem q763 : (Jvm.Cond.methodLink "DareFordLaw" (94 : Nat) ({ cls := "DareFord", name := "dares", desc := "(IIII)I" } : Jvm.MethodName)) ∈ lw_all := lw_g (lw_at lw_m3 197 rfl) rfl
theorem q767 : (Jvm.Cond.methodLink "DareFordLaw" (99 : Nat) ({ cls := "DareFord", name := "where", desc := "(I)I" } : Jvm.MethodName)) ∈ lw_all := lw_g (lw_at lw_m3 201 rfl) rfl
theorem q779 : (Jvm.Cond.methodLink "DareFordLaw" (103 : Nat) ({ cls := "DareFord", name := "crosses", desc := "(II)I" } : Jvm.MethodName)) ∈ lw_all := lw_g (lw_at lw_m3 213 rfl) rfl
theorem q783 : (Jvm.Cond.methodLink "DareFordLaw" (107 : Nat) ({ cls := "DareFord", name := "first", desc := "(I)I" } : Jvm.MethodName)) ∈ lw_all := lw_g (lw_at lw_m3 217 rfl) rfl
theorem q787 : (Jvm.Cond.methodLink "DareFordLaw" (111 : Nat) ({ cls := "DareFord", name := "lift", desc := "(II)I" } : Jvm.MethodName)) ∈ lw_all := lw_g (lw_at lw_m3 221 rfl) rfl
theorem q795 : (Jvm.Cond.methodLink "DareFordLaw" (115 : Nat) ({ cls := "DareFord", name := "cheap", desc := "(II)I" } : Jvm.MethodName)) ∈ lw_all := lw_g (lw_at lw_m3 229 rfl) rfl
theorem q812 : (Jvm.Cond.methodLink "DareFordLaw" (119 : Nat) ({ cls := "DareFord", name := "darings", desc := "(II)I" } : Jvm.MethodName)) ∈ lw_all := lw_g (lw_at lw_m4 6 rfl) rfl
theorem q828 : (Jvm.Cond.methodLink "DareFordLaw" (123 : Nat) ({ cls := "DareFord", name := "kinds", desc := "(II)I" } : Jvm.MethodName)) ∈ lw_all := lw_g (lw_at lw_m4 22 rfl) rfl
theorem q832 : (Jvm.Cond.methodLink "DareFordLaw" (127 : Nat) ({ cls := "DareFord", name := "look", desc := "(II)I" } : Jvm.MethodName)) ∈ lw_all := lw_g (lw_at lw_m4 26 rfl) rfl
theorem q841 : (Jvm.Cond.methodLink "DareFordLaw" (131 : Nat) ({ cls := "DareFord", name := "sets", desc := "(I)I" } : Jvm.MethodName)) ∈ lw_all := lw_g (lw_at lw_m4 35 rfl) rfl
theorem q857 : (Jvm.Cond.methodLink "DareFordLaw" (135 : Nat) ({ cls := "DareFord", name := "sure", desc := "(I)I" } : Jvm.MethodName)) ∈ lw_all := lw_g (lw_at lw_m4 51 rfl) rfl
theorem q861 : (Jvm.Cond.methodLink "DareFordLaw" (139 : Nat) ({ cls := "DareFord", name := "duel", desc := "(III)I" } : Jvm.MethodName)) ∈ lw_all := lw_g (lw_at lw_m4 55 rfl) rfl
theorem q869 : (Jvm.Cond.methodLink "DareFordLaw" (143 : Nat) ({ cls := "DareFord", name := "odds", desc := "(II)I" } : Jvm.MethodName)) ∈ lw_all := lw_g (lw_at lw_m4 63 rfl) rfl
theorem q882 : (Jvm.Cond.methodLink "DareFordLaw" (147 : Nat) ({ cls := "DareFord", name := "mid", desc := "(II)I" } : Jvm.MethodName)) ∈ lw_all := lw_g (lw_at lw_m4 76 rfl) rfl
theorem q890 : (Jvm.Cond.methodLink "DareFordLaw" (151 : Nat) ({ cls := "DareFord", name := "fair", desc := "(I)I" } : Jvm.MethodName)) ∈ lw_all := lw_g (lw_at lw_m4 84 rfl) rfl
theorem q897 : (Jvm.Cond.methodLink "DareFordLaw" (155 : Nat) ({ cls := "DareFord", name := "lots", desc := "(II)I" } : Jvm.MethodName)) ∈ lw_all := lw_g (lw_at lw_m4 91 rfl) rfl
theorem q912 : (Jvm.Cond.methodLink "DareFordLaw" (172 : Nat) ({ cls := "DareFord", name := "count", desc := "(I)I" } : Jvm.MethodName)) ∈ lw_all := lw_g (lw_at lw_m4 106 rfl) rfl
theorem q920 : (Jvm.Cond.methodLink "DareFordLaw" (176 : Nat) ({ cls := "DareFord", name := "finding", desc := "()I" } : Jvm.MethodName)) ∈ lw_all := lw_g (lw_at lw_m4 114 rfl) rfl
theorem q924 : (Jvm.Cond.methodLink "DareFordLaw" (180 : Nat) ({ cls := "DareFord", name := "findings", desc := "(I)I" } : Jvm.MethodName)) ∈ lw_all := lw_g (lw_at lw_m4 118 rfl) rfl
theorem q928 : (Jvm.Cond.methodLink "DareFordLaw" (184 : Nat) ({ cls := "DareFord", name := "digest", desc := "()J" } : Jvm.MethodName)) ∈ lw_all := lw_g (lw_at lw_m4 122 rfl) rfl
theorem q943 : (Jvm.Cond.classLink "DareFordLaw" (10 : Nat) "DareFordModel") ∈ lw_all := lw_g (lw_at lw_m4 137 rfl) rfl
theorem q945 : (Jvm.Cond.methodLink "DareFordLaw" (12 : Nat) ({ cls := "DareFordModel", name := "<init>", desc := "()V" } : Jvm.MethodName)) ∈ lw_all := lw_g (lw_at lw_m4 139 rfl) rfl
theorem q1019 : (Jvm.Cond.methodLink "DareFordLaw" (17 : Nat) ({ cls := "DareFordModel", name := "row", desc := "(II)I" } : Jvm.MethodName)) ∈ lw_all := lw_g (lw_at lw_m4 213 rfl) rfl
theorem q1038 : (Jvm.Cond.methodLink "DareFordLaw" (22 : Nat) ({ cls := "DareFordModel", name := "lay", desc := "(III)I" } : Jvm.MethodName)) ∈ lw_all := lw_g (lw_at lw_m4 232 rfl) rfl
theorem q1050 : (Jvm.Cond.methodLink "DareFordLaw" (26 : Nat) ({ cls := "DareFordModel", name := "at", desc := "(II)I" } : Jvm.MethodName)) ∈ lw_all := lw_g (lw_at lw_m5 4 rfl) rfl
theorem q1054 : (Jvm.Cond.methodLink "DareFordLaw" (31 : Nat) ({ cls := "DareFordModel", name := "tear", desc := "(I)I" } : Jvm.MethodName)) ∈ lw_all := lw_g (lw_at lw_m5 8 rfl) rfl
theorem q1058 : (Jvm.Cond.methodLink "DareFordLaw" (36 : Nat) ({ cls := "DareFordModel", name := "copy", desc := "(IIIII)I" } : Jvm.MethodName)) ∈ lw_all := lw_g (lw_at lw_m5 12 rfl) rfl
theorem q1066 : (Jvm.Cond.methodLink "DareFordLaw" (40 : Nat) ({ cls := "DareFordModel", name := "mean", desc := "(I)I" } : Jvm.MethodName)) ∈ lw_all := lw_g (lw_at lw_m5 20 rfl) rfl
theorem q1070 : (Jvm.Cond.methodLink "DareFordLaw" (44 : Nat) ({ cls := "DareFordModel", name := "text", desc := "(II)I" } : Jvm.MethodName)) ∈ lw_all := lw_g (lw_at lw_m5 24 rfl) rfl
theorem q1078 : (Jvm.Cond.methodLink "DareFordLaw" (48 : Nat) ({ cls := "DareFordModel", name := "put", desc := "(III)I" } : Jvm.MethodName)) ∈ lw_all := lw_g (lw_at lw_m5 32 rfl) rfl
theorem q1082 : (Jvm.Cond.methodLink "DareFordLaw" (52 : Nat) ({ cls := "DareFordModel", name := "fault", desc := "(I)I" } : Jvm.MethodName)) ∈ lw_all := lw_g (lw_at lw_m5 36 rfl) rfl
theorem q1119 : (Jvm.Cond.methodLink "DareFordLaw" (56 : Nat) ({ cls := "DareFordModel", name := "river", desc := "(I)I" } : Jvm.MethodName)) ∈ lw_all := lw_g (lw_at lw_m5 73 rfl) rfl
theorem q1123 : (Jvm.Cond.methodLink "DareFordLaw" (60 : Nat) ({ cls := "DareFordModel", name := "one", desc := "(II)I" } : Jvm.MethodName)) ∈ lw_all := lw_g (lw_at lw_m5 77 rfl) rfl
theorem q1149 : (Jvm.Cond.methodLink "DareFordLaw" (64 : Nat) ({ cls := "DareFordModel", name := "mark", desc := "(II)I" } : Jvm.MethodName)) ∈ lw_all := lw_g (lw_at lw_m5 103 rfl) rfl
theorem q1161 : (Jvm.Cond.methodLink "DareFordLaw" (69 : Nat) ({ cls := "DareFordModel", name := "night", desc := "()I" } : Jvm.MethodName)) ∈ lw_all := lw_g (lw_at lw_m5 115 rfl) rfl
theorem q1184 : (Jvm.Cond.methodLink "DareFordLaw" (73 : Nat) ({ cls := "DareFordModel", name := "raise", desc := "(II)I" } : Jvm.MethodName)) ∈ lw_all := lw_g (lw_at lw_m5 138 rfl) rfl
theorem q1194 : (Jvm.Cond.methodLink "DareFordLaw" (77 : Nat) ({ cls := "DareFordModel", name := "shame", desc := "(II)I" } : Jvm.MethodName)) ∈ lw_all := lw_g (lw_at lw_m5 148 rfl) rfl
theorem q1198 : (Jvm.Cond.methodLink "DareFordLaw" (81 : Nat) ({ cls := "DareFordModel", name := "door", desc := "(II)I" } : Jvm.MethodName)) ∈ lw_all := lw_g (lw_at lw_m5 152 rfl) rfl
theorem q1202 : (Jvm.Cond.methodLink "DareFordLaw" (85 : Nat) ({ cls := "DareFordModel", name := "undo", desc := "(I)I" } : Jvm.MethodName)) ∈ lw_all := lw_g (lw_at lw_m5 156 rfl) rfl
theorem q1206 : (Jvm.Cond.methodLink "DareFordLaw" (89 : Nat) ({ cls := "DareFordModel", name := "keep", desc := "(I)I" } : Jvm.MethodName)) ∈ lw_all := lw_g (lw_at lw_m5 160 rfl) rfl
theorem q1215 : (Jvm.Cond.methodLink "DareFordLaw" (93 : Nat) ({ cls := "DareFordModel", name := "on", desc := "(I)I" } : Jvm.MethodName)) ∈ lw_all := lw_g (lw_at lw_m5 169 rfl) rfl
theorem q1219 : (Jvm.Cond.methodLink "DareFordLaw" (98 : Nat) ({ cls := "DareFordModel", name := "dares", desc := "(IIII)I" } : Jvm.MethodName)) ∈ lw_all := lw_g (lw_at lw_m5 173 rfl) rfl
theorem q1224 : (Jvm.Cond.methodLink "DareFordLaw" (102 : Nat) ({ cls := "DareFordModel", name := "where", desc := "(I)I" } : Jvm.MethodName)) ∈ lw_all := lw_g (lw_at lw_m5 178 rfl) rfl
theorem q1233 : (Jvm.Cond.methodLink "DareFordLaw" (106 : Nat) ({ cls := "DareFordModel", name := "crosses", desc := "(II)I" } : Jvm.MethodName)) ∈ lw_all := lw_g (lw_at lw_m5 187 rfl) rfl
theorem q1237 : (Jvm.Cond.methodLink "DareFordLaw" (110 : Nat) ({ cls := "DareFordModel", name := "first", desc := "(I)I" } : Jvm.MethodName)) ∈ lw_all := lw_g (lw_at lw_m5 191 rfl) rfl
theorem q1241 : (Jvm.Cond.methodLink "DareFordLaw" (114 : Nat) ({ cls := "DareFordModel", name := "lift", desc := "(II)I" } : Jvm.MethodName)) ∈ lw_all := lw_g (lw_at lw_m5 195 rfl) rfl
theorem q1249 : (Jvm.Cond.methodLink "DareFordLaw" (118 : Nat) ({ cls := "DareFordModel", name := "cheap", desc := "(II)I" } : Jvm.MethodName)) ∈ lw_all := lw_g (lw_at lw_m5 203 rfl) rfl
theorem q1266 : (Jvm.Cond.methodLink "DareFordLaw" (122 : Nat) ({ cls := "DareFordModel", name := "darings", desc := "(II)I" } : Jvm.MethodName)) ∈ lw_all := lw_g (lw_at lw_m5 220 rfl) rfl
theorem q1283 : (Jvm.Cond.methodLink "DareFordLaw" (126 : Nat) ({ cls := "DareFordModel", name := "kinds", desc := "(II)I" } : Jvm.MethodName)) ∈ lw_all := lw_g (lw_at lw_m5 237 rfl) rfl
theorem q1287 : (Jvm.Cond.methodLink "DareFordLaw" (130 : Nat) ({ cls := "DareFordModel", name := "look", desc := "(II)I" } : Jvm.MethodName)) ∈ lw_all := lw_g (lw_at lw_m6 1 rfl) rfl
theorem q1299 : (Jvm.Cond.methodLink "DareFordLaw" (134 : Nat) ({ cls := "DareFordModel", name := "sets", desc := "(I)I" } : Jvm.MethodName)) ∈ lw_all := lw_g (lw_at lw_m6 13 rfl) rfl
theorem q1312 : (Jvm.Cond.methodLink "DareFordLaw" (138 : Nat) ({ cls := "DareFordModel", name := "sure", desc := "(I)I" } : Jvm.MethodName)) ∈ lw_all := lw_g (lw_at lw_m6 26 rfl) rfl
theorem q1316 : (Jvm.Cond.methodLink "DareFordLaw" (142 : Nat) ({ cls := "DareFordModel", name := "duel", desc := "(III)I" } : Jvm.MethodName)) ∈ lw_all := lw_g (lw_at lw_m6 30 rfl) rfl
theorem q1328 : (Jvm.Cond.methodLink "DareFordLaw" (146 : Nat) ({ cls := "DareFordModel", name := "odds", desc := "(II)I" } : Jvm.MethodName)) ∈ lw_all := lw_g (lw_at lw_m6 42 rfl) rfl
theorem q1341 : (Jvm.Cond.methodLink "DareFordLaw" (150 : Nat) ({ cls := "DareFordModel", name := "mid", desc := "(II)I" } : Jvm.MethodName)) ∈ lw_all := lw_g (lw_at lw_m6 55 rfl) rfl
theorem q1349 : (Jvm.Cond.methodLink "DareFordLaw" (154 : Nat) ({ cls := "DareFordModel", name := "fair", desc := "(I)I" } : Jvm.MethodName)) ∈ lw_all := lw_g (lw_at lw_m6 63 rfl) rfl
theorem q1354 : (Jvm.Cond.methodLink "DareFordLaw" (158 : Nat) ({ cls := "DareFordModel", name := "lots", desc := "(II)I" } : Jvm.MethodName)) ∈ lw_all := lw_g (lw_at lw_m6 68 rfl) rfl
theorem q1367 : (Jvm.Cond.methodLink "DareFordLaw" (162 : Nat) ({ cls := "DareFordModel", name := "asked", desc := "()I" } : Jvm.MethodName)) ∈ lw_all := lw_g (lw_at lw_m6 81 rfl) rfl
theorem q1371 : (Jvm.Cond.methodLink "DareFordLaw" (167 : Nat) ({ cls := "DareFordModel", name := "upper", desc := "()J" } : Jvm.MethodName)) ∈ lw_all := lw_g (lw_at lw_m6 85 rfl) rfl
theorem q1375 : (Jvm.Cond.methodLink "DareFordLaw" (171 : Nat) ({ cls := "DareFordModel", name := "lower", desc := "()J" } : Jvm.MethodName)) ∈ lw_all := lw_g (lw_at lw_m6 89 rfl) rfl
theorem q1379 : (Jvm.Cond.methodLink "DareFordLaw" (175 : Nat) ({ cls := "DareFordModel", name := "count", desc := "(I)I" } : Jvm.MethodName)) ∈ lw_all := lw_g (lw_at lw_m6 93 rfl) rfl
theorem q1400 : (Jvm.Cond.methodLink "DareFordLaw" (179 : Nat) ({ cls := "DareFordModel", name := "finding", desc := "()I" } : Jvm.MethodName)) ∈ lw_all := lw_g (lw_at lw_m6 114 rfl) rfl
theorem q1404 : (Jvm.Cond.methodLink "DareFordLaw" (183 : Nat) ({ cls := "DareFordModel", name := "findings", desc := "(I)I" } : Jvm.MethodName)) ∈ lw_all := lw_g (lw_at lw_m6 118 rfl) rfl
theorem q1408 : (Jvm.Cond.methodLink "DareFordLaw" (187 : Nat) ({ cls := "DareFordModel", name := "digest", desc := "()J" } : Jvm.MethodName)) ∈ lw_all := lw_g (lw_at lw_m6 122 rfl) rfl
