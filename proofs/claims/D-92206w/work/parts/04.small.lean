/-! UnreadScript$Sheet -/
set_option maxRecDepth 100000
def RX1 : String := "UnreadScript$Sheet"
def TX1 : u_T := fun k => match k with
  | 0 => ("UnreadScript$Sheet", "row", "Ljava/lang/Object;", false)
  | _ => ("UnreadScript$Sheet", "size", "I", false)
def tyX1 : Nat → FieldType := fun k => match k with
  | 0 => .object "java/lang/Object"
  | _ => .int
abbrev wsX10 : List Cond := u_ws RX1 TX1 2
theorem nmX1 : ∀ a, a < 2 → ∀ b, b < 2 → a ≠ b → (TX1 a).2.1 ≠ (TX1 b).2.1 := by decide +kernel
theorem tyX1_ok : ∀ k, k < 2 → parseFieldDescriptor (TX1 k).2.2.1 = some (tyX1 k) := by decide +kernel
abbrev cX1_init : ByteArray := prog_6_method_1_code
def yX1_init : MethodName := ⟨RX1, "<init>", "()V"⟩
theorem dX1_init_0 : decode cX1_init 0 = .ok (.aload_n 0, 1) := by decide +kernel
theorem dX1_init_1 : decode cX1_init 1 = .ok (.invokespecial 1, 3) := by decide +kernel
theorem dX1_init_4 : decode cX1_init 4 = .ok (.return_, 1) := by decide +kernel
theorem q87 : (Jvm.Cond.initialized "UnreadScript$Sheet") ∈ lw_all := lw_g (lw_at lw_m1 2 rfl) rfl
theorem q723 : (Jvm.Cond.instantiable "UnreadScript$Sheet" (2 : Nat)) ∈ lw_all := lw_g (lw_at lw_m3 158 rfl) rfl
theorem q725 : (Jvm.Cond.instanceMethod ({ cls := "UnreadScript$Sheet", name := "<init>", desc := "()V" } : Jvm.MethodName)) ∈ lw_all := lw_g (lw_at lw_m3 160 rfl) rfl
theorem q726 : (Jvm.Cond.code ({ cls := "UnreadScript$Sheet", name := "<init>", desc := "()V" } : Jvm.MethodName) prog_6_method_1_code (1 : Nat) (Option.none : Option Jvm.ClassFile.FieldType)) ∈ lw_all := lw_g (lw_at lw_m3 161 rfl) rfl
theorem q727 : (Jvm.Cond.methodLink "UnreadScript$Sheet" (1 : Nat) ({ cls := "java/lang/Object", name := "<init>", desc := "()V" } : Jvm.MethodName)) ∈ lw_all := lw_g (lw_at lw_m3 162 rfl) rfl
theorem q730 : (Jvm.Cond.lays "UnreadScript$Sheet" "UnreadScript$Sheet" "row" "Ljava/lang/Object;") ∈ lw_all := lw_g (lw_at lw_m3 165 rfl) rfl
theorem q731 : (Jvm.Cond.soleField "UnreadScript$Sheet" "row") ∈ lw_all := lw_g (lw_at lw_m3 166 rfl) rfl
theorem q732 : (Jvm.Cond.lays "UnreadScript$Sheet" "UnreadScript$Sheet" "size" "I") ∈ lw_all := lw_g (lw_at lw_m3 167 rfl) rfl
theorem q733 : (Jvm.Cond.soleField "UnreadScript$Sheet" "size") ∈ lw_all := lw_g (lw_at lw_m3 168 rfl) rfl
theorem q734 : (Jvm.Cond.superclass "UnreadScript$Sheet" "java/lang/Object") ∈ lw_all := lw_g (lw_at lw_m3 169 rfl) rfl
theorem in_X1 : ∀ w ∈ wsX10, w ∈ lw_all := lw_in wsX10 [730, 732] (by decide +kernel) (by decide +kernel)
/-! UnreadScript$Text -/
set_option maxRecDepth 100000
def RX3 : String := "UnreadScript$Text"
def TX3 : u_T := fun k => match k with
  | _ => ("UnreadScript$Text", "cells", "[I", true)
def tyX3 : Nat → FieldType := fun k => match k with
  | _ => .array .int
abbrev wsX30 : List Cond := u_ws RX3 TX3 1
theorem nmX3 : ∀ a, a < 1 → ∀ b, b < 1 → a ≠ b → (TX3 a).2.1 ≠ (TX3 b).2.1 := by decide +kernel
theorem tyX3_ok : ∀ k, k < 1 → parseFieldDescriptor (TX3 k).2.2.1 = some (tyX3 k) := by decide +kernel
abbrev cX3_size : ByteArray := prog_8_method_2_code
def yX3_size : MethodName := ⟨RX3, "size", "()I"⟩
def dkwX3_size_0 : List UInt8 := [42, 180, 0, 9, 190, 172]
abbrev dktX3_size_0 : List UInt8 := dkwX3_size_0 ++ []
theorem dksX3_size_0 : cX3_size.data.toList.drop 0 = dktX3_size_0 := by decide +kernel
theorem dX3_size_0 : decode cX3_size 0 = .ok (.aload_n 0, 1) := dk_42 (dk_at dksX3_size_0 0 rfl rfl)
theorem dX3_size_1 : decode cX3_size 1 = .ok (.getfield 9, 3) := dk_180 0 9 (dk_at dksX3_size_0 1 rfl rfl)
theorem dX3_size_4 : decode cX3_size 4 = .ok (.arraylength, 1) := dk_190 (dk_at dksX3_size_0 4 rfl rfl)
theorem dX3_size_5 : decode cX3_size 5 = .ok (.ireturn, 1) := dk_172 (dk_at dksX3_size_0 5 rfl rfl)
abbrev cX3_endOf : ByteArray := prog_8_method_3_code
def yX3_endOf : MethodName := ⟨RX3, "endOf", "(I)I"⟩
def dkwX3_endOf_2 : List UInt8 := [162, 0, 20, 42, 180, 0, 9, 29, 46, 16, 254, 159, 0, 9, 132, 3, 1, 167, 255, 229, 29, 172]
abbrev dktX3_endOf_2 : List UInt8 := dkwX3_endOf_2 ++ []
def dkwX3_endOf_1 : List UInt8 := [16, 254, 160, 0, 7, 4, 167, 0, 4, 3, 61, 27, 62, 28, 153, 0, 29, 29, 42, 180, 0, 9, 190]
abbrev dktX3_endOf_1 : List UInt8 := dkwX3_endOf_1 ++ dktX3_endOf_2
def dkwX3_endOf_0 : List UInt8 := [42, 180, 0, 9, 27, 46, 16, 254, 159, 0, 24, 27, 153, 0, 16, 42, 180, 0, 9, 27, 4, 100, 46]
abbrev dktX3_endOf_0 : List UInt8 := dkwX3_endOf_0 ++ dktX3_endOf_1
theorem dksX3_endOf_0 : cX3_endOf.data.toList.drop 0 = dktX3_endOf_0 := by decide +kernel
theorem dksX3_endOf_1 : cX3_endOf.data.toList.drop 23 = dktX3_endOf_1 := dk_seg dksX3_endOf_0 23 rfl rfl
theorem dksX3_endOf_2 : cX3_endOf.data.toList.drop 46 = dktX3_endOf_2 := dk_seg dksX3_endOf_1 23 rfl rfl
theorem dX3_endOf_0 : decode cX3_endOf 0 = .ok (.aload_n 0, 1) := dk_42 (dk_at dksX3_endOf_0 0 rfl rfl)
theorem dX3_endOf_1 : decode cX3_endOf 1 = .ok (.getfield 9, 3) := dk_180 0 9 (dk_at dksX3_endOf_0 1 rfl rfl)
theorem dX3_endOf_4 : decode cX3_endOf 4 = .ok (.iload_n 1, 1) := dk_27 (dk_at dksX3_endOf_0 4 rfl rfl)
theorem dX3_endOf_5 : decode cX3_endOf 5 = .ok (.iaload, 1) := dk_46 (dk_at dksX3_endOf_0 5 rfl rfl)
theorem dX3_endOf_6 : decode cX3_endOf 6 = .ok (.bipush (-2), 2) := dk_16 254 (dk_at dksX3_endOf_0 6 rfl rfl)
theorem dX3_endOf_8 : decode cX3_endOf 8 = .ok (.if_icmp .eq 24, 3) := dk_159 0 24 (dk_at dksX3_endOf_0 8 rfl rfl)
theorem dX3_endOf_11 : decode cX3_endOf 11 = .ok (.iload_n 1, 1) := dk_27 (dk_at dksX3_endOf_0 11 rfl rfl)
theorem dX3_endOf_12 : decode cX3_endOf 12 = .ok (.ifCond .eq 16, 3) := dk_153 0 16 (dk_at dksX3_endOf_0 12 rfl rfl)
theorem dX3_endOf_15 : decode cX3_endOf 15 = .ok (.aload_n 0, 1) := dk_42 (dk_at dksX3_endOf_0 15 rfl rfl)
theorem dX3_endOf_16 : decode cX3_endOf 16 = .ok (.getfield 9, 3) := dk_180 0 9 (dk_at dksX3_endOf_0 16 rfl rfl)
theorem dX3_endOf_19 : decode cX3_endOf 19 = .ok (.iload_n 1, 1) := dk_27 (dk_at dksX3_endOf_0 19 rfl rfl)
theorem dX3_endOf_20 : decode cX3_endOf 20 = .ok (.iconst 1, 1) := dk_4 (dk_at dksX3_endOf_0 20 rfl rfl)
theorem dX3_endOf_21 : decode cX3_endOf 21 = .ok (.isub, 1) := dk_100 (dk_at dksX3_endOf_0 21 rfl rfl)
theorem dX3_endOf_22 : decode cX3_endOf 22 = .ok (.iaload, 1) := dk_46 (dk_at dksX3_endOf_0 22 rfl rfl)
theorem dX3_endOf_23 : decode cX3_endOf 23 = .ok (.bipush (-2), 2) := dk_16 254 (dk_at dksX3_endOf_1 0 rfl rfl)
theorem dX3_endOf_25 : decode cX3_endOf 25 = .ok (.if_icmp .ne 7, 3) := dk_160 0 7 (dk_at dksX3_endOf_1 2 rfl rfl)
theorem dX3_endOf_28 : decode cX3_endOf 28 = .ok (.iconst 1, 1) := dk_4 (dk_at dksX3_endOf_1 5 rfl rfl)
theorem dX3_endOf_29 : decode cX3_endOf 29 = .ok (.goto 4, 3) := dk_167 0 4 (dk_at dksX3_endOf_1 6 rfl rfl)
theorem dX3_endOf_32 : decode cX3_endOf 32 = .ok (.iconst 0, 1) := dk_3 (dk_at dksX3_endOf_1 9 rfl rfl)
theorem dX3_endOf_33 : decode cX3_endOf 33 = .ok (.istore_n 2, 1) := dk_61 (dk_at dksX3_endOf_1 10 rfl rfl)
theorem dX3_endOf_34 : decode cX3_endOf 34 = .ok (.iload_n 1, 1) := dk_27 (dk_at dksX3_endOf_1 11 rfl rfl)
theorem dX3_endOf_35 : decode cX3_endOf 35 = .ok (.istore_n 3, 1) := dk_62 (dk_at dksX3_endOf_1 12 rfl rfl)
theorem dX3_endOf_36 : decode cX3_endOf 36 = .ok (.iload_n 2, 1) := dk_28 (dk_at dksX3_endOf_1 13 rfl rfl)
theorem dX3_endOf_37 : decode cX3_endOf 37 = .ok (.ifCond .eq 29, 3) := dk_153 0 29 (dk_at dksX3_endOf_1 14 rfl rfl)
theorem dX3_endOf_40 : decode cX3_endOf 40 = .ok (.iload_n 3, 1) := dk_29 (dk_at dksX3_endOf_1 17 rfl rfl)
theorem dX3_endOf_41 : decode cX3_endOf 41 = .ok (.aload_n 0, 1) := dk_42 (dk_at dksX3_endOf_1 18 rfl rfl)
theorem dX3_endOf_42 : decode cX3_endOf 42 = .ok (.getfield 9, 3) := dk_180 0 9 (dk_at dksX3_endOf_1 19 rfl rfl)
theorem dX3_endOf_45 : decode cX3_endOf 45 = .ok (.arraylength, 1) := dk_190 (dk_at dksX3_endOf_1 22 rfl rfl)
theorem dX3_endOf_46 : decode cX3_endOf 46 = .ok (.if_icmp .ge 20, 3) := dk_162 0 20 (dk_at dksX3_endOf_2 0 rfl rfl)
theorem dX3_endOf_49 : decode cX3_endOf 49 = .ok (.aload_n 0, 1) := dk_42 (dk_at dksX3_endOf_2 3 rfl rfl)
theorem dX3_endOf_50 : decode cX3_endOf 50 = .ok (.getfield 9, 3) := dk_180 0 9 (dk_at dksX3_endOf_2 4 rfl rfl)
theorem dX3_endOf_53 : decode cX3_endOf 53 = .ok (.iload_n 3, 1) := dk_29 (dk_at dksX3_endOf_2 7 rfl rfl)
theorem dX3_endOf_54 : decode cX3_endOf 54 = .ok (.iaload, 1) := dk_46 (dk_at dksX3_endOf_2 8 rfl rfl)
theorem dX3_endOf_55 : decode cX3_endOf 55 = .ok (.bipush (-2), 2) := dk_16 254 (dk_at dksX3_endOf_2 9 rfl rfl)
theorem dX3_endOf_57 : decode cX3_endOf 57 = .ok (.if_icmp .eq 9, 3) := dk_159 0 9 (dk_at dksX3_endOf_2 11 rfl rfl)
theorem dX3_endOf_60 : decode cX3_endOf 60 = .ok (.iinc 3 1, 3) := dk_132 3 1 (dk_at dksX3_endOf_2 14 rfl rfl)
theorem dX3_endOf_63 : decode cX3_endOf 63 = .ok (.goto (-27), 3) := dk_167 255 229 (dk_at dksX3_endOf_2 17 rfl rfl)
theorem dX3_endOf_66 : decode cX3_endOf 66 = .ok (.iload_n 3, 1) := dk_29 (dk_at dksX3_endOf_2 20 rfl rfl)
theorem dX3_endOf_67 : decode cX3_endOf 67 = .ok (.ireturn, 1) := dk_172 (dk_at dksX3_endOf_2 21 rfl rfl)
abbrev cX3_isWhole : ByteArray := prog_8_method_4_code
def yX3_isWhole : MethodName := ⟨RX3, "isWhole", "(II)Z"⟩
def dkwX3_isWhole_1 : List UInt8 := [42, 180, 0, 9, 21, 4, 46, 155, 0, 7, 4, 167, 0, 4, 3, 62, 132, 4, 1, 167, 255, 227, 29, 172]
abbrev dktX3_isWhole_1 : List UInt8 := dkwX3_isWhole_1 ++ []
def dkwX3_isWhole_0 : List UInt8 := [28, 27, 164, 0, 7, 4, 167, 0, 4, 3, 62, 27, 54, 4, 21, 4, 28, 162, 0, 29, 29, 153, 0, 17]
abbrev dktX3_isWhole_0 : List UInt8 := dkwX3_isWhole_0 ++ dktX3_isWhole_1
theorem dksX3_isWhole_0 : cX3_isWhole.data.toList.drop 0 = dktX3_isWhole_0 := by decide +kernel
theorem dksX3_isWhole_1 : cX3_isWhole.data.toList.drop 24 = dktX3_isWhole_1 := dk_seg dksX3_isWhole_0 24 rfl rfl
theorem dX3_isWhole_0 : decode cX3_isWhole 0 = .ok (.iload_n 2, 1) := dk_28 (dk_at dksX3_isWhole_0 0 rfl rfl)
theorem dX3_isWhole_1 : decode cX3_isWhole 1 = .ok (.iload_n 1, 1) := dk_27 (dk_at dksX3_isWhole_0 1 rfl rfl)
theorem dX3_isWhole_2 : decode cX3_isWhole 2 = .ok (.if_icmp .le 7, 3) := dk_164 0 7 (dk_at dksX3_isWhole_0 2 rfl rfl)
theorem dX3_isWhole_5 : decode cX3_isWhole 5 = .ok (.iconst 1, 1) := dk_4 (dk_at dksX3_isWhole_0 5 rfl rfl)
theorem dX3_isWhole_6 : decode cX3_isWhole 6 = .ok (.goto 4, 3) := dk_167 0 4 (dk_at dksX3_isWhole_0 6 rfl rfl)
theorem dX3_isWhole_9 : decode cX3_isWhole 9 = .ok (.iconst 0, 1) := dk_3 (dk_at dksX3_isWhole_0 9 rfl rfl)
theorem dX3_isWhole_10 : decode cX3_isWhole 10 = .ok (.istore_n 3, 1) := dk_62 (dk_at dksX3_isWhole_0 10 rfl rfl)
theorem dX3_isWhole_11 : decode cX3_isWhole 11 = .ok (.iload_n 1, 1) := dk_27 (dk_at dksX3_isWhole_0 11 rfl rfl)
theorem dX3_isWhole_12 : decode cX3_isWhole 12 = .ok (.istore 4, 2) := dk_54 4 (dk_at dksX3_isWhole_0 12 rfl rfl)
theorem dX3_isWhole_14 : decode cX3_isWhole 14 = .ok (.iload 4, 2) := dk_21 4 (dk_at dksX3_isWhole_0 14 rfl rfl)
theorem dX3_isWhole_16 : decode cX3_isWhole 16 = .ok (.iload_n 2, 1) := dk_28 (dk_at dksX3_isWhole_0 16 rfl rfl)
theorem dX3_isWhole_17 : decode cX3_isWhole 17 = .ok (.if_icmp .ge 29, 3) := dk_162 0 29 (dk_at dksX3_isWhole_0 17 rfl rfl)
theorem dX3_isWhole_20 : decode cX3_isWhole 20 = .ok (.iload_n 3, 1) := dk_29 (dk_at dksX3_isWhole_0 20 rfl rfl)
theorem dX3_isWhole_21 : decode cX3_isWhole 21 = .ok (.ifCond .eq 17, 3) := dk_153 0 17 (dk_at dksX3_isWhole_0 21 rfl rfl)
theorem dX3_isWhole_24 : decode cX3_isWhole 24 = .ok (.aload_n 0, 1) := dk_42 (dk_at dksX3_isWhole_1 0 rfl rfl)
theorem dX3_isWhole_25 : decode cX3_isWhole 25 = .ok (.getfield 9, 3) := dk_180 0 9 (dk_at dksX3_isWhole_1 1 rfl rfl)
theorem dX3_isWhole_28 : decode cX3_isWhole 28 = .ok (.iload 4, 2) := dk_21 4 (dk_at dksX3_isWhole_1 4 rfl rfl)
theorem dX3_isWhole_30 : decode cX3_isWhole 30 = .ok (.iaload, 1) := dk_46 (dk_at dksX3_isWhole_1 6 rfl rfl)
theorem dX3_isWhole_31 : decode cX3_isWhole 31 = .ok (.ifCond .lt 7, 3) := dk_155 0 7 (dk_at dksX3_isWhole_1 7 rfl rfl)
theorem dX3_isWhole_34 : decode cX3_isWhole 34 = .ok (.iconst 1, 1) := dk_4 (dk_at dksX3_isWhole_1 10 rfl rfl)
theorem dX3_isWhole_35 : decode cX3_isWhole 35 = .ok (.goto 4, 3) := dk_167 0 4 (dk_at dksX3_isWhole_1 11 rfl rfl)
theorem dX3_isWhole_38 : decode cX3_isWhole 38 = .ok (.iconst 0, 1) := dk_3 (dk_at dksX3_isWhole_1 14 rfl rfl)
theorem dX3_isWhole_39 : decode cX3_isWhole 39 = .ok (.istore_n 3, 1) := dk_62 (dk_at dksX3_isWhole_1 15 rfl rfl)
theorem dX3_isWhole_40 : decode cX3_isWhole 40 = .ok (.iinc 4 1, 3) := dk_132 4 1 (dk_at dksX3_isWhole_1 16 rfl rfl)
theorem dX3_isWhole_43 : decode cX3_isWhole 43 = .ok (.goto (-29), 3) := dk_167 255 227 (dk_at dksX3_isWhole_1 19 rfl rfl)
theorem dX3_isWhole_46 : decode cX3_isWhole 46 = .ok (.iload_n 3, 1) := dk_29 (dk_at dksX3_isWhole_1 22 rfl rfl)
theorem dX3_isWhole_47 : decode cX3_isWhole 47 = .ok (.ireturn, 1) := dk_172 (dk_at dksX3_isWhole_1 23 rfl rfl)
abbrev cX3_init : ByteArray := prog_8_method_1_code
def yX3_init : MethodName := ⟨RX3, "<init>", "([I)V"⟩
def dkwX3_init_0 : List UInt8 := [42, 183, 0, 3, 42, 43, 181, 0, 9, 177]
abbrev dktX3_init_0 : List UInt8 := dkwX3_init_0 ++ []
theorem dksX3_init_0 : cX3_init.data.toList.drop 0 = dktX3_init_0 := by decide +kernel
theorem dX3_init_0 : decode cX3_init 0 = .ok (.aload_n 0, 1) := dk_42 (dk_at dksX3_init_0 0 rfl rfl)
theorem dX3_init_1 : decode cX3_init 1 = .ok (.invokespecial 3, 3) := dk_183 0 3 (dk_at dksX3_init_0 1 rfl rfl)
theorem dX3_init_4 : decode cX3_init 4 = .ok (.aload_n 0, 1) := dk_42 (dk_at dksX3_init_0 4 rfl rfl)
theorem dX3_init_5 : decode cX3_init 5 = .ok (.aload_n 1, 1) := dk_43 (dk_at dksX3_init_0 5 rfl rfl)
theorem dX3_init_6 : decode cX3_init 6 = .ok (.putfield 9, 3) := dk_181 0 9 (dk_at dksX3_init_0 6 rfl rfl)
theorem dX3_init_9 : decode cX3_init 9 = .ok (.return_, 1) := dk_177 (dk_at dksX3_init_0 9 rfl rfl)
theorem q98 : (Jvm.Cond.initialized "UnreadScript$Text") ∈ lw_all := lw_g (lw_at lw_m1 13 rfl) rfl
theorem q175 : (Jvm.Cond.instanceMethod ({ cls := "UnreadScript$Text", name := "size", desc := "()I" } : Jvm.MethodName)) ∈ lw_all := lw_g (lw_at lw_m1 90 rfl) rfl
theorem q176 : (Jvm.Cond.selects "UnreadScript$Text" ({ cls := "UnreadScript$Text", name := "size", desc := "()I" } : Jvm.MethodName) ({ cls := "UnreadScript$Text", name := "size", desc := "()I" } : Jvm.MethodName)) ∈ lw_all := lw_g (lw_at lw_m1 91 rfl) rfl
theorem q177 : (Jvm.Cond.code ({ cls := "UnreadScript$Text", name := "size", desc := "()I" } : Jvm.MethodName) prog_8_method_2_code (1 : Nat) (Option.some Jvm.ClassFile.FieldType.int)) ∈ lw_all := lw_g (lw_at lw_m1 92 rfl) rfl
theorem q183 : (Jvm.Cond.instanceMethod ({ cls := "UnreadScript$Text", name := "endOf", desc := "(I)I" } : Jvm.MethodName)) ∈ lw_all := lw_g (lw_at lw_m1 98 rfl) rfl
theorem q184 : (Jvm.Cond.selects "UnreadScript$Text" ({ cls := "UnreadScript$Text", name := "endOf", desc := "(I)I" } : Jvm.MethodName) ({ cls := "UnreadScript$Text", name := "endOf", desc := "(I)I" } : Jvm.MethodName)) ∈ lw_all := lw_g (lw_at lw_m1 99 rfl) rfl
theorem q185 : (Jvm.Cond.code ({ cls := "UnreadScript$Text", name := "endOf", desc := "(I)I" } : Jvm.MethodName) prog_8_method_3_code (4 : Nat) (Option.some Jvm.ClassFile.FieldType.int)) ∈ lw_all := lw_g (lw_at lw_m1 100 rfl) rfl
theorem q187 : (Jvm.Cond.instanceMethod ({ cls := "UnreadScript$Text", name := "isWhole", desc := "(II)Z" } : Jvm.MethodName)) ∈ lw_all := lw_g (lw_at lw_m1 102 rfl) rfl
theorem q188 : (Jvm.Cond.selects "UnreadScript$Text" ({ cls := "UnreadScript$Text", name := "isWhole", desc := "(II)Z" } : Jvm.MethodName) ({ cls := "UnreadScript$Text", name := "isWhole", desc := "(II)Z" } : Jvm.MethodName)) ∈ lw_all := lw_g (lw_at lw_m1 103 rfl) rfl
theorem q189 : (Jvm.Cond.code ({ cls := "UnreadScript$Text", name := "isWhole", desc := "(II)Z" } : Jvm.MethodName) prog_8_method_4_code (5 : Nat) (Option.some Jvm.ClassFile.FieldType.boolean)) ∈ lw_all := lw_g (lw_at lw_m1 104 rfl) rfl
theorem q994 : (Jvm.Cond.instantiable "UnreadScript$Text" (1 : Nat)) ∈ lw_all := lw_g (lw_at lw_m4 189 rfl) rfl
theorem q996 : (Jvm.Cond.instanceMethod ({ cls := "UnreadScript$Text", name := "<init>", desc := "([I)V" } : Jvm.MethodName)) ∈ lw_all := lw_g (lw_at lw_m4 191 rfl) rfl
theorem q997 : (Jvm.Cond.code ({ cls := "UnreadScript$Text", name := "<init>", desc := "([I)V" } : Jvm.MethodName) prog_8_method_1_code (2 : Nat) (Option.none : Option Jvm.ClassFile.FieldType)) ∈ lw_all := lw_g (lw_at lw_m4 192 rfl) rfl
theorem q998 : (Jvm.Cond.methodLink "UnreadScript$Text" (3 : Nat) ({ cls := "java/lang/Object", name := "<init>", desc := "()V" } : Jvm.MethodName)) ∈ lw_all := lw_g (lw_at lw_m4 193 rfl) rfl
theorem q999 : (Jvm.Cond.fieldLink "UnreadScript$Text" (9 : Nat) "UnreadScript$Text" "cells" "[I") ∈ lw_all := lw_g (lw_at lw_m4 194 rfl) rfl
theorem q1001 : (Jvm.Cond.laysFinal "UnreadScript$Text" "UnreadScript$Text" "cells" "[I") ∈ lw_all := lw_g (lw_at lw_m4 196 rfl) rfl
theorem q1002 : (Jvm.Cond.soleField "UnreadScript$Text" "cells") ∈ lw_all := lw_g (lw_at lw_m4 197 rfl) rfl
theorem q1003 : (Jvm.Cond.superclass "UnreadScript$Text" "java/lang/Object") ∈ lw_all := lw_g (lw_at lw_m4 198 rfl) rfl
theorem in_X3 : ∀ w ∈ wsX30, w ∈ lw_all := lw_in wsX30 [1001] (by decide +kernel) (by decide +kernel)
/-! UnreadScript$Sounds -/
set_option maxRecDepth 100000
def RX4 : String := "UnreadScript$Sounds"
abbrev cX4_init : ByteArray := prog_7_method_1_code
def yX4_init : MethodName := ⟨RX4, "<init>", "(II)V"⟩
def dkwX4_init_1 : List UInt8 := [5, 27, 4, 100, 29, 100, 104, 122, 6, 126, 79, 132, 3, 1, 167, 255, 231, 177]
abbrev dktX4_init_1 : List UInt8 := dkwX4_init_1 ++ []
def dkwX4_init_0 : List UInt8 := [42, 183, 0, 1, 42, 27, 188, 10, 181, 0, 7, 3, 62, 29, 27, 162, 0, 26, 42, 180, 0, 7, 29, 28]
abbrev dktX4_init_0 : List UInt8 := dkwX4_init_0 ++ dktX4_init_1
theorem dksX4_init_0 : cX4_init.data.toList.drop 0 = dktX4_init_0 := by decide +kernel
theorem dksX4_init_1 : cX4_init.data.toList.drop 24 = dktX4_init_1 := dk_seg dksX4_init_0 24 rfl rfl
theorem dX4_init_0 : decode cX4_init 0 = .ok (.aload_n 0, 1) := dk_42 (dk_at dksX4_init_0 0 rfl rfl)
theorem dX4_init_1 : decode cX4_init 1 = .ok (.invokespecial 1, 3) := dk_183 0 1 (dk_at dksX4_init_0 1 rfl rfl)
theorem dX4_init_4 : decode cX4_init 4 = .ok (.aload_n 0, 1) := dk_42 (dk_at dksX4_init_0 4 rfl rfl)
theorem dX4_init_5 : decode cX4_init 5 = .ok (.iload_n 1, 1) := dk_27 (dk_at dksX4_init_0 5 rfl rfl)
theorem dX4_init_6 : decode cX4_init 6 = .ok (.newarray .int, 2) := dk_188_10 (dk_at dksX4_init_0 6 rfl rfl)
theorem dX4_init_8 : decode cX4_init 8 = .ok (.putfield 7, 3) := dk_181 0 7 (dk_at dksX4_init_0 8 rfl rfl)
theorem dX4_init_11 : decode cX4_init 11 = .ok (.iconst 0, 1) := dk_3 (dk_at dksX4_init_0 11 rfl rfl)
theorem dX4_init_12 : decode cX4_init 12 = .ok (.istore_n 3, 1) := dk_62 (dk_at dksX4_init_0 12 rfl rfl)
theorem dX4_init_13 : decode cX4_init 13 = .ok (.iload_n 3, 1) := dk_29 (dk_at dksX4_init_0 13 rfl rfl)
theorem dX4_init_14 : decode cX4_init 14 = .ok (.iload_n 1, 1) := dk_27 (dk_at dksX4_init_0 14 rfl rfl)
theorem dX4_init_15 : decode cX4_init 15 = .ok (.if_icmp .ge 26, 3) := dk_162 0 26 (dk_at dksX4_init_0 15 rfl rfl)
theorem dX4_init_18 : decode cX4_init 18 = .ok (.aload_n 0, 1) := dk_42 (dk_at dksX4_init_0 18 rfl rfl)
theorem dX4_init_19 : decode cX4_init 19 = .ok (.getfield 7, 3) := dk_180 0 7 (dk_at dksX4_init_0 19 rfl rfl)
theorem dX4_init_22 : decode cX4_init 22 = .ok (.iload_n 3, 1) := dk_29 (dk_at dksX4_init_0 22 rfl rfl)
theorem dX4_init_23 : decode cX4_init 23 = .ok (.iload_n 2, 1) := dk_28 (dk_at dksX4_init_0 23 rfl rfl)
theorem dX4_init_24 : decode cX4_init 24 = .ok (.iconst 2, 1) := dk_5 (dk_at dksX4_init_1 0 rfl rfl)
theorem dX4_init_25 : decode cX4_init 25 = .ok (.iload_n 1, 1) := dk_27 (dk_at dksX4_init_1 1 rfl rfl)
theorem dX4_init_26 : decode cX4_init 26 = .ok (.iconst 1, 1) := dk_4 (dk_at dksX4_init_1 2 rfl rfl)
theorem dX4_init_27 : decode cX4_init 27 = .ok (.isub, 1) := dk_100 (dk_at dksX4_init_1 3 rfl rfl)
theorem dX4_init_28 : decode cX4_init 28 = .ok (.iload_n 3, 1) := dk_29 (dk_at dksX4_init_1 4 rfl rfl)
theorem dX4_init_29 : decode cX4_init 29 = .ok (.isub, 1) := dk_100 (dk_at dksX4_init_1 5 rfl rfl)
theorem dX4_init_30 : decode cX4_init 30 = .ok (.imul, 1) := dk_104 (dk_at dksX4_init_1 6 rfl rfl)
theorem dX4_init_31 : decode cX4_init 31 = .ok (.ishr, 1) := dk_122 (dk_at dksX4_init_1 7 rfl rfl)
theorem dX4_init_32 : decode cX4_init 32 = .ok (.iconst 3, 1) := dk_6 (dk_at dksX4_init_1 8 rfl rfl)
theorem dX4_init_33 : decode cX4_init 33 = .ok (.iand, 1) := dk_126 (dk_at dksX4_init_1 9 rfl rfl)
theorem dX4_init_34 : decode cX4_init 34 = .ok (.iastore, 1) := dk_79 (dk_at dksX4_init_1 10 rfl rfl)
theorem dX4_init_35 : decode cX4_init 35 = .ok (.iinc 3 1, 3) := dk_132 3 1 (dk_at dksX4_init_1 11 rfl rfl)
theorem dX4_init_38 : decode cX4_init 38 = .ok (.goto (-25), 3) := dk_167 255 231 (dk_at dksX4_init_1 14 rfl rfl)
theorem dX4_init_41 : decode cX4_init 41 = .ok (.return_, 1) := dk_177 (dk_at dksX4_init_1 17 rfl rfl)
abbrev cX4_size : ByteArray := prog_7_method_2_code
def yX4_size : MethodName := ⟨RX4, "size", "()I"⟩
def dkwX4_size_0 : List UInt8 := [42, 180, 0, 7, 190, 172]
abbrev dktX4_size_0 : List UInt8 := dkwX4_size_0 ++ []
theorem dksX4_size_0 : cX4_size.data.toList.drop 0 = dktX4_size_0 := by decide +kernel
theorem dX4_size_0 : decode cX4_size 0 = .ok (.aload_n 0, 1) := dk_42 (dk_at dksX4_size_0 0 rfl rfl)
theorem dX4_size_1 : decode cX4_size 1 = .ok (.getfield 7, 3) := dk_180 0 7 (dk_at dksX4_size_0 1 rfl rfl)
theorem dX4_size_4 : decode cX4_size 4 = .ok (.arraylength, 1) := dk_190 (dk_at dksX4_size_0 4 rfl rfl)
theorem dX4_size_5 : decode cX4_size 5 = .ok (.ireturn, 1) := dk_172 (dk_at dksX4_size_0 5 rfl rfl)
abbrev cX4_number : ByteArray := prog_7_method_3_code
def yX4_number : MethodName := ⟨RX4, "number", "()I"⟩
def dkwX4_number_1 : List UInt8 := [54, 5, 27, 5, 120, 21, 5, 128, 60, 132, 4, 1, 167, 255, 234, 27, 172]
abbrev dktX4_number_1 : List UInt8 := dkwX4_number_1 ++ []
def dkwX4_number_0 : List UInt8 := [3, 60, 42, 180, 0, 7, 77, 44, 190, 62, 3, 54, 4, 21, 4, 29, 162, 0, 22, 44, 21, 4, 46]
abbrev dktX4_number_0 : List UInt8 := dkwX4_number_0 ++ dktX4_number_1
theorem dksX4_number_0 : cX4_number.data.toList.drop 0 = dktX4_number_0 := by decide +kernel
theorem dksX4_number_1 : cX4_number.data.toList.drop 23 = dktX4_number_1 := dk_seg dksX4_number_0 23 rfl rfl
theorem dX4_number_0 : decode cX4_number 0 = .ok (.iconst 0, 1) := dk_3 (dk_at dksX4_number_0 0 rfl rfl)
theorem dX4_number_1 : decode cX4_number 1 = .ok (.istore_n 1, 1) := dk_60 (dk_at dksX4_number_0 1 rfl rfl)
theorem dX4_number_2 : decode cX4_number 2 = .ok (.aload_n 0, 1) := dk_42 (dk_at dksX4_number_0 2 rfl rfl)
theorem dX4_number_3 : decode cX4_number 3 = .ok (.getfield 7, 3) := dk_180 0 7 (dk_at dksX4_number_0 3 rfl rfl)
theorem dX4_number_6 : decode cX4_number 6 = .ok (.astore_n 2, 1) := dk_77 (dk_at dksX4_number_0 6 rfl rfl)
theorem dX4_number_7 : decode cX4_number 7 = .ok (.aload_n 2, 1) := dk_44 (dk_at dksX4_number_0 7 rfl rfl)
theorem dX4_number_8 : decode cX4_number 8 = .ok (.arraylength, 1) := dk_190 (dk_at dksX4_number_0 8 rfl rfl)
theorem dX4_number_9 : decode cX4_number 9 = .ok (.istore_n 3, 1) := dk_62 (dk_at dksX4_number_0 9 rfl rfl)
theorem dX4_number_10 : decode cX4_number 10 = .ok (.iconst 0, 1) := dk_3 (dk_at dksX4_number_0 10 rfl rfl)
theorem dX4_number_11 : decode cX4_number 11 = .ok (.istore 4, 2) := dk_54 4 (dk_at dksX4_number_0 11 rfl rfl)
theorem dX4_number_13 : decode cX4_number 13 = .ok (.iload 4, 2) := dk_21 4 (dk_at dksX4_number_0 13 rfl rfl)
theorem dX4_number_15 : decode cX4_number 15 = .ok (.iload_n 3, 1) := dk_29 (dk_at dksX4_number_0 15 rfl rfl)
theorem dX4_number_16 : decode cX4_number 16 = .ok (.if_icmp .ge 22, 3) := dk_162 0 22 (dk_at dksX4_number_0 16 rfl rfl)
theorem dX4_number_19 : decode cX4_number 19 = .ok (.aload_n 2, 1) := dk_44 (dk_at dksX4_number_0 19 rfl rfl)
theorem dX4_number_20 : decode cX4_number 20 = .ok (.iload 4, 2) := dk_21 4 (dk_at dksX4_number_0 20 rfl rfl)
theorem dX4_number_22 : decode cX4_number 22 = .ok (.iaload, 1) := dk_46 (dk_at dksX4_number_0 22 rfl rfl)
theorem dX4_number_23 : decode cX4_number 23 = .ok (.istore 5, 2) := dk_54 5 (dk_at dksX4_number_1 0 rfl rfl)
theorem dX4_number_25 : decode cX4_number 25 = .ok (.iload_n 1, 1) := dk_27 (dk_at dksX4_number_1 2 rfl rfl)
theorem dX4_number_26 : decode cX4_number 26 = .ok (.iconst 2, 1) := dk_5 (dk_at dksX4_number_1 3 rfl rfl)
theorem dX4_number_27 : decode cX4_number 27 = .ok (.ishl, 1) := dk_120 (dk_at dksX4_number_1 4 rfl rfl)
theorem dX4_number_28 : decode cX4_number 28 = .ok (.iload 5, 2) := dk_21 5 (dk_at dksX4_number_1 5 rfl rfl)
theorem dX4_number_30 : decode cX4_number 30 = .ok (.ior, 1) := dk_128 (dk_at dksX4_number_1 7 rfl rfl)
theorem dX4_number_31 : decode cX4_number 31 = .ok (.istore_n 1, 1) := dk_60 (dk_at dksX4_number_1 8 rfl rfl)
theorem dX4_number_32 : decode cX4_number 32 = .ok (.iinc 4 1, 3) := dk_132 4 1 (dk_at dksX4_number_1 9 rfl rfl)
theorem dX4_number_35 : decode cX4_number 35 = .ok (.goto (-22), 3) := dk_167 255 234 (dk_at dksX4_number_1 12 rfl rfl)
theorem dX4_number_38 : decode cX4_number 38 = .ok (.iload_n 1, 1) := dk_27 (dk_at dksX4_number_1 15 rfl rfl)
theorem dX4_number_39 : decode cX4_number 39 = .ok (.ireturn, 1) := dk_172 (dk_at dksX4_number_1 16 rfl rfl)
theorem q102 : (Jvm.Cond.initialized "UnreadScript$Sounds") ∈ lw_all := lw_g (lw_at lw_m1 17 rfl) rfl
theorem q314 : (Jvm.Cond.instanceMethod ({ cls := "UnreadScript$Sounds", name := "<init>", desc := "(II)V" } : Jvm.MethodName)) ∈ lw_all := lw_g (lw_at lw_m1 229 rfl) rfl
theorem q315 : (Jvm.Cond.code ({ cls := "UnreadScript$Sounds", name := "<init>", desc := "(II)V" } : Jvm.MethodName) prog_7_method_1_code (4 : Nat) (Option.none : Option Jvm.ClassFile.FieldType)) ∈ lw_all := lw_g (lw_at lw_m1 230 rfl) rfl
theorem q316 : (Jvm.Cond.methodLink "UnreadScript$Sounds" (1 : Nat) ({ cls := "java/lang/Object", name := "<init>", desc := "()V" } : Jvm.MethodName)) ∈ lw_all := lw_g (lw_at lw_m1 231 rfl) rfl
theorem q319 : (Jvm.Cond.fieldLink "UnreadScript$Sounds" (7 : Nat) "UnreadScript$Sounds" "sounds" "[I") ∈ lw_all := lw_g (lw_at lw_m1 234 rfl) rfl
theorem q323 : (Jvm.Cond.soleField "UnreadScript$Sounds" "sounds") ∈ lw_all := lw_g (lw_at lw_m1 238 rfl) rfl
theorem q344 : (Jvm.Cond.declares ({ cls := "UnreadScript$Sounds", name := "size", desc := "()I" } : Jvm.MethodName)) ∈ lw_tbl := lw_at lw_m2 19 rfl
theorem q346 : (Jvm.Cond.instanceMethod ({ cls := "UnreadScript$Sounds", name := "size", desc := "()I" } : Jvm.MethodName)) ∈ lw_all := lw_g (lw_at lw_m2 21 rfl) rfl
theorem q347 : (Jvm.Cond.code ({ cls := "UnreadScript$Sounds", name := "size", desc := "()I" } : Jvm.MethodName) prog_7_method_2_code (1 : Nat) (Option.some Jvm.ClassFile.FieldType.int)) ∈ lw_all := lw_g (lw_at lw_m2 22 rfl) rfl
theorem q366 : (Jvm.Cond.declares ({ cls := "UnreadScript$Sounds", name := "number", desc := "()I" } : Jvm.MethodName)) ∈ lw_tbl := lw_at lw_m2 41 rfl
theorem q368 : (Jvm.Cond.instanceMethod ({ cls := "UnreadScript$Sounds", name := "number", desc := "()I" } : Jvm.MethodName)) ∈ lw_all := lw_g (lw_at lw_m2 43 rfl) rfl
theorem q369 : (Jvm.Cond.code ({ cls := "UnreadScript$Sounds", name := "number", desc := "()I" } : Jvm.MethodName) prog_7_method_3_code (6 : Nat) (Option.some Jvm.ClassFile.FieldType.int)) ∈ lw_all := lw_g (lw_at lw_m2 44 rfl) rfl
/-! UnreadScript$Name -/
set_option maxRecDepth 100000
def RX5 : String := "UnreadScript$Name"
def TX5 : u_T := fun k => match k with
  | _ => ("UnreadScript$Sounds", "sounds", "[I", true)
def tyX5 : Nat → FieldType := fun k => match k with
  | _ => .array .int
abbrev wsX50 : List Cond := u_ws RX5 TX5 1
theorem nmX5 : ∀ a, a < 1 → ∀ b, b < 1 → a ≠ b → (TX5 a).2.1 ≠ (TX5 b).2.1 := by decide +kernel
theorem tyX5_ok : ∀ k, k < 1 → parseFieldDescriptor (TX5 k).2.2.1 = some (tyX5 k) := by decide +kernel
abbrev cX5_init : ByteArray := prog_4_method_1_code
def yX5_init : MethodName := ⟨RX5, "<init>", "(II)V"⟩
def dkwX5_init_0 : List UInt8 := [42, 27, 28, 183, 0, 1, 177]
abbrev dktX5_init_0 : List UInt8 := dkwX5_init_0 ++ []
theorem dksX5_init_0 : cX5_init.data.toList.drop 0 = dktX5_init_0 := by decide +kernel
theorem dX5_init_0 : decode cX5_init 0 = .ok (.aload_n 0, 1) := dk_42 (dk_at dksX5_init_0 0 rfl rfl)
theorem dX5_init_1 : decode cX5_init 1 = .ok (.iload_n 1, 1) := dk_27 (dk_at dksX5_init_0 1 rfl rfl)
theorem dX5_init_2 : decode cX5_init 2 = .ok (.iload_n 2, 1) := dk_28 (dk_at dksX5_init_0 2 rfl rfl)
theorem dX5_init_3 : decode cX5_init 3 = .ok (.invokespecial 1, 3) := dk_183 0 1 (dk_at dksX5_init_0 3 rfl rfl)
theorem dX5_init_6 : decode cX5_init 6 = .ok (.return_, 1) := dk_177 (dk_at dksX5_init_0 6 rfl rfl)
theorem q103 : (Jvm.Cond.initialized "UnreadScript$Name") ∈ lw_all := lw_g (lw_at lw_m1 18 rfl) rfl
theorem q309 : (Jvm.Cond.instantiable "UnreadScript$Name" (1 : Nat)) ∈ lw_all := lw_g (lw_at lw_m1 224 rfl) rfl
theorem q311 : (Jvm.Cond.instanceMethod ({ cls := "UnreadScript$Name", name := "<init>", desc := "(II)V" } : Jvm.MethodName)) ∈ lw_all := lw_g (lw_at lw_m1 226 rfl) rfl
theorem q312 : (Jvm.Cond.code ({ cls := "UnreadScript$Name", name := "<init>", desc := "(II)V" } : Jvm.MethodName) prog_4_method_1_code (3 : Nat) (Option.none : Option Jvm.ClassFile.FieldType)) ∈ lw_all := lw_g (lw_at lw_m1 227 rfl) rfl
theorem q313 : (Jvm.Cond.methodLink "UnreadScript$Name" (1 : Nat) ({ cls := "UnreadScript$Sounds", name := "<init>", desc := "(II)V" } : Jvm.MethodName)) ∈ lw_all := lw_g (lw_at lw_m1 228 rfl) rfl
theorem q321 : (Jvm.Cond.sameField "UnreadScript$Name" "UnreadScript$Sounds" "sounds" "[I") ∈ lw_all := lw_g (lw_at lw_m1 236 rfl) rfl
theorem q322 : (Jvm.Cond.laysFinal "UnreadScript$Name" "UnreadScript$Sounds" "sounds" "[I") ∈ lw_all := lw_g (lw_at lw_m1 237 rfl) rfl
theorem q324 : (Jvm.Cond.superclass "UnreadScript$Name" "UnreadScript$Sounds") ∈ lw_all := lw_g (lw_at lw_m1 239 rfl) rfl
theorem q343 : (Jvm.Cond.sameMethod "UnreadScript$Name" "UnreadScript$Sounds" "size" "()I") ∈ lw_all := lw_g (lw_at lw_m2 18 rfl) rfl
theorem q345 : (Jvm.Cond.selects "UnreadScript$Name" ({ cls := "UnreadScript$Name", name := "size", desc := "()I" } : Jvm.MethodName) ({ cls := "UnreadScript$Sounds", name := "size", desc := "()I" } : Jvm.MethodName)) ∈ lw_all := lw_g (lw_at lw_m2 20 rfl) rfl
theorem in_X5 : ∀ w ∈ wsX50, w ∈ lw_all := lw_in wsX50 [322] (by decide +kernel) (by decide +kernel)
/-! UnreadScript$Word -/
set_option maxRecDepth 100000
def RX6 : String := "UnreadScript$Word"
def TX6 : u_T := fun k => match k with
  | _ => ("UnreadScript$Sounds", "sounds", "[I", true)
def tyX6 : Nat → FieldType := fun k => match k with
  | _ => .array .int
abbrev wsX60 : List Cond := u_ws RX6 TX6 1
theorem nmX6 : ∀ a, a < 1 → ∀ b, b < 1 → a ≠ b → (TX6 a).2.1 ≠ (TX6 b).2.1 := by decide +kernel
theorem tyX6_ok : ∀ k, k < 1 → parseFieldDescriptor (TX6 k).2.2.1 = some (tyX6 k) := by decide +kernel
abbrev cX6_init : ByteArray := prog_9_method_1_code
def yX6_init : MethodName := ⟨RX6, "<init>", "(II)V"⟩
def dkwX6_init_0 : List UInt8 := [42, 27, 28, 183, 0, 1, 177]
abbrev dktX6_init_0 : List UInt8 := dkwX6_init_0 ++ []
theorem dksX6_init_0 : cX6_init.data.toList.drop 0 = dktX6_init_0 := by decide +kernel
theorem dX6_init_0 : decode cX6_init 0 = .ok (.aload_n 0, 1) := dk_42 (dk_at dksX6_init_0 0 rfl rfl)
theorem dX6_init_1 : decode cX6_init 1 = .ok (.iload_n 1, 1) := dk_27 (dk_at dksX6_init_0 1 rfl rfl)
theorem dX6_init_2 : decode cX6_init 2 = .ok (.iload_n 2, 1) := dk_28 (dk_at dksX6_init_0 2 rfl rfl)
theorem dX6_init_3 : decode cX6_init 3 = .ok (.invokespecial 1, 3) := dk_183 0 1 (dk_at dksX6_init_0 3 rfl rfl)
theorem dX6_init_6 : decode cX6_init 6 = .ok (.return_, 1) := dk_177 (dk_at dksX6_init_0 6 rfl rfl)
theorem q104 : (Jvm.Cond.initialized "UnreadScript$Word") ∈ lw_all := lw_g (lw_at lw_m1 19 rfl) rfl
theorem q357 : (Jvm.Cond.instantiable "UnreadScript$Word" (1 : Nat)) ∈ lw_all := lw_g (lw_at lw_m2 32 rfl) rfl
theorem q359 : (Jvm.Cond.instanceMethod ({ cls := "UnreadScript$Word", name := "<init>", desc := "(II)V" } : Jvm.MethodName)) ∈ lw_all := lw_g (lw_at lw_m2 34 rfl) rfl
theorem q360 : (Jvm.Cond.code ({ cls := "UnreadScript$Word", name := "<init>", desc := "(II)V" } : Jvm.MethodName) prog_9_method_1_code (3 : Nat) (Option.none : Option Jvm.ClassFile.FieldType)) ∈ lw_all := lw_g (lw_at lw_m2 35 rfl) rfl
theorem q361 : (Jvm.Cond.methodLink "UnreadScript$Word" (1 : Nat) ({ cls := "UnreadScript$Sounds", name := "<init>", desc := "(II)V" } : Jvm.MethodName)) ∈ lw_all := lw_g (lw_at lw_m2 36 rfl) rfl
theorem q362 : (Jvm.Cond.laysFinal "UnreadScript$Word" "UnreadScript$Sounds" "sounds" "[I") ∈ lw_all := lw_g (lw_at lw_m2 37 rfl) rfl
theorem q363 : (Jvm.Cond.superclass "UnreadScript$Word" "UnreadScript$Sounds") ∈ lw_all := lw_g (lw_at lw_m2 38 rfl) rfl
theorem q365 : (Jvm.Cond.sameMethod "UnreadScript$Word" "UnreadScript$Sounds" "number" "()I") ∈ lw_all := lw_g (lw_at lw_m2 40 rfl) rfl
theorem q367 : (Jvm.Cond.selects "UnreadScript$Word" ({ cls := "UnreadScript$Word", name := "number", desc := "()I" } : Jvm.MethodName) ({ cls := "UnreadScript$Sounds", name := "number", desc := "()I" } : Jvm.MethodName)) ∈ lw_all := lw_g (lw_at lw_m2 42 rfl) rfl
theorem in_X6 : ∀ w ∈ wsX60, w ∈ lw_all := lw_in wsX60 [362] (by decide +kernel) (by decide +kernel)
/-! UnreadScript$Reader -/
set_option maxRecDepth 100000
def RX7 : String := "UnreadScript$Reader"
def TX7 : u_T := fun k => match k with
  | 0 => ("UnreadScript$Reader", "t", "[B", true)
  | 1 => ("UnreadScript$Reader", "from", "I", false)
  | 2 => ("UnreadScript$Reader", "to", "I", false)
  | 3 => ("UnreadScript$Reader", "kind", "I", false)
  | 4 => ("UnreadScript$Reader", "value", "I", false)
  | _ => ("UnreadScript$Reader", "this$0", "LUnreadScript;", true)
def tyX7 : Nat → FieldType := fun k => match k with
  | 0 => .array .byte
  | 1 => .int
  | 2 => .int
  | 3 => .int
  | 4 => .int
  | _ => .object "UnreadScript"
abbrev wsX70 : List Cond := u_ws RX7 TX7 6
theorem nmX7 : ∀ a, a < 6 → ∀ b, b < 6 → a ≠ b → (TX7 a).2.1 ≠ (TX7 b).2.1 := by decide +kernel
theorem tyX7_ok : ∀ k, k < 6 → parseFieldDescriptor (TX7 k).2.2.1 = some (tyX7 k) := by decide +kernel
abbrev cX7_init : ByteArray := prog_5_method_1_code
def yX7_init : MethodName := ⟨RX7, "<init>", "(LUnreadScript;[B)V"⟩
def dkwX7_init_0 : List UInt8 := [42, 43, 181, 0, 3, 42, 183, 0, 9, 42, 44, 181, 0, 15, 42, 182, 0, 19, 177]
abbrev dktX7_init_0 : List UInt8 := dkwX7_init_0 ++ []
theorem dksX7_init_0 : cX7_init.data.toList.drop 0 = dktX7_init_0 := by decide +kernel
theorem dX7_init_0 : decode cX7_init 0 = .ok (.aload_n 0, 1) := dk_42 (dk_at dksX7_init_0 0 rfl rfl)
theorem dX7_init_1 : decode cX7_init 1 = .ok (.aload_n 1, 1) := dk_43 (dk_at dksX7_init_0 1 rfl rfl)
theorem dX7_init_2 : decode cX7_init 2 = .ok (.putfield 3, 3) := dk_181 0 3 (dk_at dksX7_init_0 2 rfl rfl)
theorem dX7_init_5 : decode cX7_init 5 = .ok (.aload_n 0, 1) := dk_42 (dk_at dksX7_init_0 5 rfl rfl)
theorem dX7_init_6 : decode cX7_init 6 = .ok (.invokespecial 9, 3) := dk_183 0 9 (dk_at dksX7_init_0 6 rfl rfl)
theorem dX7_init_9 : decode cX7_init 9 = .ok (.aload_n 0, 1) := dk_42 (dk_at dksX7_init_0 9 rfl rfl)
theorem dX7_init_10 : decode cX7_init 10 = .ok (.aload_n 2, 1) := dk_44 (dk_at dksX7_init_0 10 rfl rfl)
theorem dX7_init_11 : decode cX7_init 11 = .ok (.putfield 15, 3) := dk_181 0 15 (dk_at dksX7_init_0 11 rfl rfl)
theorem dX7_init_14 : decode cX7_init 14 = .ok (.aload_n 0, 1) := dk_42 (dk_at dksX7_init_0 14 rfl rfl)
theorem dX7_init_15 : decode cX7_init 15 = .ok (.invokevirtual 19, 3) := dk_182 0 19 (dk_at dksX7_init_0 15 rfl rfl)
theorem dX7_init_18 : decode cX7_init 18 = .ok (.return_, 1) := dk_177 (dk_at dksX7_init_0 18 rfl rfl)
abbrev cX7_next : ByteArray := prog_5_method_5_code
def yX7_next : MethodName := ⟨RX7, "next", "()V"⟩
def dkwX7_next_15 : List UInt8 := [182, 0, 70, 42, 6, 181, 0, 51, 42, 27, 181, 0, 48, 177]
abbrev dktX7_next_15 : List UInt8 := dkwX7_next_15 ++ []
def dkwX7_next_14 : List UInt8 := [167, 0, 35, 42, 27, 16, 59, 159, 0, 9, 27, 16, 44, 160, 0, 7, 4, 167, 0, 4, 3, 4]
abbrev dktX7_next_14 : List UInt8 := dkwX7_next_14 ++ dktX7_next_15
def dkwX7_next_13 : List UInt8 := [42, 180, 0, 24, 100, 5, 163, 0, 7, 4, 167, 0, 4, 3, 4, 182, 0, 70, 42, 5, 181, 0, 51]
abbrev dktX7_next_13 : List UInt8 := dkwX7_next_13 ++ dktX7_next_14
def dkwX7_next_12 : List UInt8 := [180, 0, 48, 181, 0, 48, 42, 89, 180, 0, 37, 4, 96, 181, 0, 37, 167, 255, 182, 42, 42, 180, 0, 37]
abbrev dktX7_next_12 : List UInt8 := dkwX7_next_12 ++ dktX7_next_13
def dkwX7_next_11 : List UInt8 := [16, 10, 42, 180, 0, 48, 104, 42, 42, 180, 0, 37, 182, 0, 44, 96, 16, 48, 100, 167, 0, 7, 42]
abbrev dktX7_next_11 : List UInt8 := dkwX7_next_11 ++ dktX7_next_12
def dkwX7_next_10 : List UInt8 := [20, 0, 76, 184, 0, 58, 153, 0, 59, 42, 42, 180, 0, 37, 42, 180, 0, 24, 100, 5, 162, 0, 25]
abbrev dktX7_next_10 : List UInt8 := dkwX7_next_10 ++ dktX7_next_11
def dkwX7_next_9 : List UInt8 := [153, 0, 119, 42, 42, 180, 0, 24, 181, 0, 37, 42, 42, 180, 0, 37, 182, 0, 44, 133, 20, 0, 74]
abbrev dktX7_next_9 : List UInt8 := dkwX7_next_9 ++ dktX7_next_10
def dkwX7_next_8 : List UInt8 := [167, 0, 4, 3, 4, 182, 0, 70, 167, 0, 165, 27, 133, 20, 0, 74, 20, 0, 76, 184, 0, 58]
abbrev dktX7_next_8 : List UInt8 := dkwX7_next_8 ++ dktX7_next_9
def dkwX7_next_7 : List UInt8 := [180, 0, 48, 4, 96, 181, 0, 48, 167, 255, 220, 42, 42, 180, 0, 48, 178, 0, 62, 190, 162, 0, 7, 4]
abbrev dktX7_next_7 : List UInt8 := dkwX7_next_7 ++ dktX7_next_8
def dkwX7_next_6 : List UInt8 := [178, 0, 62, 190, 162, 0, 31, 42, 178, 0, 62, 42, 180, 0, 48, 50, 182, 0, 66, 154, 0, 16, 42, 89]
abbrev dktX7_next_6 : List UInt8 := dkwX7_next_6 ++ dktX7_next_7
def dkwX7_next_5 : List UInt8 := [42, 89, 180, 0, 37, 4, 96, 181, 0, 37, 167, 255, 225, 42, 4, 181, 0, 51, 42, 180, 0, 48]
abbrev dktX7_next_5 : List UInt8 := dkwX7_next_5 ++ dktX7_next_6
def dkwX7_next_4 : List UInt8 := [153, 0, 105, 42, 42, 180, 0, 37, 182, 0, 44, 133, 20, 0, 54, 20, 0, 56, 184, 0, 58, 153, 0, 16]
abbrev dktX7_next_4 : List UInt8 := dkwX7_next_4 ++ dktX7_next_5
def dkwX7_next_3 : List UInt8 := [181, 0, 37, 42, 3, 181, 0, 51, 167, 1, 25, 27, 133, 20, 0, 54, 20, 0, 56, 184, 0, 58]
abbrev dktX7_next_3 : List UInt8 := dkwX7_next_3 ++ dktX7_next_4
def dkwX7_next_2 : List UInt8 := [180, 0, 24, 4, 96, 181, 0, 37, 42, 3, 181, 0, 48, 27, 16, 252, 160, 0, 19, 42, 42, 180, 0, 24]
abbrev dktX7_next_2 : List UInt8 := dkwX7_next_2 ++ dktX7_next_3
def dkwX7_next_1 : List UInt8 := [180, 0, 24, 4, 96, 181, 0, 24, 167, 255, 233, 42, 42, 180, 0, 24, 182, 0, 44, 60, 42, 42]
abbrev dktX7_next_1 : List UInt8 := dkwX7_next_1 ++ dktX7_next_2
def dkwX7_next_0 : List UInt8 := [42, 42, 180, 0, 37, 181, 0, 24, 42, 42, 180, 0, 24, 182, 0, 44, 16, 32, 160, 0, 16, 42, 89]
abbrev dktX7_next_0 : List UInt8 := dkwX7_next_0 ++ dktX7_next_1
theorem dksX7_next_0 : cX7_next.data.toList.drop 0 = dktX7_next_0 := by decide +kernel
theorem dksX7_next_1 : cX7_next.data.toList.drop 23 = dktX7_next_1 := dk_seg dksX7_next_0 23 rfl rfl
theorem dksX7_next_2 : cX7_next.data.toList.drop 45 = dktX7_next_2 := dk_seg dksX7_next_1 22 rfl rfl
theorem dksX7_next_3 : cX7_next.data.toList.drop 69 = dktX7_next_3 := dk_seg dksX7_next_2 24 rfl rfl
theorem dksX7_next_4 : cX7_next.data.toList.drop 91 = dktX7_next_4 := dk_seg dksX7_next_3 22 rfl rfl
theorem dksX7_next_5 : cX7_next.data.toList.drop 115 = dktX7_next_5 := dk_seg dksX7_next_4 24 rfl rfl
theorem dksX7_next_6 : cX7_next.data.toList.drop 137 = dktX7_next_6 := dk_seg dksX7_next_5 22 rfl rfl
theorem dksX7_next_7 : cX7_next.data.toList.drop 161 = dktX7_next_7 := dk_seg dksX7_next_6 24 rfl rfl
theorem dksX7_next_8 : cX7_next.data.toList.drop 185 = dktX7_next_8 := dk_seg dksX7_next_7 24 rfl rfl
theorem dksX7_next_9 : cX7_next.data.toList.drop 207 = dktX7_next_9 := dk_seg dksX7_next_8 22 rfl rfl
theorem dksX7_next_10 : cX7_next.data.toList.drop 230 = dktX7_next_10 := dk_seg dksX7_next_9 23 rfl rfl
theorem dksX7_next_11 : cX7_next.data.toList.drop 253 = dktX7_next_11 := dk_seg dksX7_next_10 23 rfl rfl
theorem dksX7_next_12 : cX7_next.data.toList.drop 276 = dktX7_next_12 := dk_seg dksX7_next_11 23 rfl rfl
theorem dksX7_next_13 : cX7_next.data.toList.drop 300 = dktX7_next_13 := dk_seg dksX7_next_12 24 rfl rfl
theorem dksX7_next_14 : cX7_next.data.toList.drop 323 = dktX7_next_14 := dk_seg dksX7_next_13 23 rfl rfl
theorem dksX7_next_15 : cX7_next.data.toList.drop 345 = dktX7_next_15 := dk_seg dksX7_next_14 22 rfl rfl
theorem dX7_next_0 : decode cX7_next 0 = .ok (.aload_n 0, 1) := dk_42 (dk_at dksX7_next_0 0 rfl rfl)
theorem dX7_next_1 : decode cX7_next 1 = .ok (.aload_n 0, 1) := dk_42 (dk_at dksX7_next_0 1 rfl rfl)
theorem dX7_next_2 : decode cX7_next 2 = .ok (.getfield 37, 3) := dk_180 0 37 (dk_at dksX7_next_0 2 rfl rfl)
theorem dX7_next_5 : decode cX7_next 5 = .ok (.putfield 24, 3) := dk_181 0 24 (dk_at dksX7_next_0 5 rfl rfl)
theorem dX7_next_8 : decode cX7_next 8 = .ok (.aload_n 0, 1) := dk_42 (dk_at dksX7_next_0 8 rfl rfl)
theorem dX7_next_9 : decode cX7_next 9 = .ok (.aload_n 0, 1) := dk_42 (dk_at dksX7_next_0 9 rfl rfl)
theorem dX7_next_10 : decode cX7_next 10 = .ok (.getfield 24, 3) := dk_180 0 24 (dk_at dksX7_next_0 10 rfl rfl)
theorem dX7_next_13 : decode cX7_next 13 = .ok (.invokevirtual 44, 3) := dk_182 0 44 (dk_at dksX7_next_0 13 rfl rfl)
theorem dX7_next_16 : decode cX7_next 16 = .ok (.bipush 32, 2) := dk_16 32 (dk_at dksX7_next_0 16 rfl rfl)
theorem dX7_next_18 : decode cX7_next 18 = .ok (.if_icmp .ne 16, 3) := dk_160 0 16 (dk_at dksX7_next_0 18 rfl rfl)
theorem dX7_next_21 : decode cX7_next 21 = .ok (.aload_n 0, 1) := dk_42 (dk_at dksX7_next_0 21 rfl rfl)
theorem dX7_next_22 : decode cX7_next 22 = .ok (.dup, 1) := dk_89 (dk_at dksX7_next_0 22 rfl rfl)
theorem dX7_next_23 : decode cX7_next 23 = .ok (.getfield 24, 3) := dk_180 0 24 (dk_at dksX7_next_1 0 rfl rfl)
theorem dX7_next_26 : decode cX7_next 26 = .ok (.iconst 1, 1) := dk_4 (dk_at dksX7_next_1 3 rfl rfl)
theorem dX7_next_27 : decode cX7_next 27 = .ok (.iadd, 1) := dk_96 (dk_at dksX7_next_1 4 rfl rfl)
theorem dX7_next_28 : decode cX7_next 28 = .ok (.putfield 24, 3) := dk_181 0 24 (dk_at dksX7_next_1 5 rfl rfl)
theorem dX7_next_31 : decode cX7_next 31 = .ok (.goto (-23), 3) := dk_167 255 233 (dk_at dksX7_next_1 8 rfl rfl)
theorem dX7_next_34 : decode cX7_next 34 = .ok (.aload_n 0, 1) := dk_42 (dk_at dksX7_next_1 11 rfl rfl)
theorem dX7_next_35 : decode cX7_next 35 = .ok (.aload_n 0, 1) := dk_42 (dk_at dksX7_next_1 12 rfl rfl)
theorem dX7_next_36 : decode cX7_next 36 = .ok (.getfield 24, 3) := dk_180 0 24 (dk_at dksX7_next_1 13 rfl rfl)
theorem dX7_next_39 : decode cX7_next 39 = .ok (.invokevirtual 44, 3) := dk_182 0 44 (dk_at dksX7_next_1 16 rfl rfl)
theorem dX7_next_42 : decode cX7_next 42 = .ok (.istore_n 1, 1) := dk_60 (dk_at dksX7_next_1 19 rfl rfl)
theorem dX7_next_43 : decode cX7_next 43 = .ok (.aload_n 0, 1) := dk_42 (dk_at dksX7_next_1 20 rfl rfl)
theorem dX7_next_44 : decode cX7_next 44 = .ok (.aload_n 0, 1) := dk_42 (dk_at dksX7_next_1 21 rfl rfl)
theorem dX7_next_45 : decode cX7_next 45 = .ok (.getfield 24, 3) := dk_180 0 24 (dk_at dksX7_next_2 0 rfl rfl)
theorem dX7_next_48 : decode cX7_next 48 = .ok (.iconst 1, 1) := dk_4 (dk_at dksX7_next_2 3 rfl rfl)
theorem dX7_next_49 : decode cX7_next 49 = .ok (.iadd, 1) := dk_96 (dk_at dksX7_next_2 4 rfl rfl)
theorem dX7_next_50 : decode cX7_next 50 = .ok (.putfield 37, 3) := dk_181 0 37 (dk_at dksX7_next_2 5 rfl rfl)
theorem dX7_next_53 : decode cX7_next 53 = .ok (.aload_n 0, 1) := dk_42 (dk_at dksX7_next_2 8 rfl rfl)
theorem dX7_next_54 : decode cX7_next 54 = .ok (.iconst 0, 1) := dk_3 (dk_at dksX7_next_2 9 rfl rfl)
theorem dX7_next_55 : decode cX7_next 55 = .ok (.putfield 48, 3) := dk_181 0 48 (dk_at dksX7_next_2 10 rfl rfl)
theorem dX7_next_58 : decode cX7_next 58 = .ok (.iload_n 1, 1) := dk_27 (dk_at dksX7_next_2 13 rfl rfl)
theorem dX7_next_59 : decode cX7_next 59 = .ok (.bipush (-4), 2) := dk_16 252 (dk_at dksX7_next_2 14 rfl rfl)
theorem dX7_next_61 : decode cX7_next 61 = .ok (.if_icmp .ne 19, 3) := dk_160 0 19 (dk_at dksX7_next_2 16 rfl rfl)
theorem dX7_next_64 : decode cX7_next 64 = .ok (.aload_n 0, 1) := dk_42 (dk_at dksX7_next_2 19 rfl rfl)
theorem dX7_next_65 : decode cX7_next 65 = .ok (.aload_n 0, 1) := dk_42 (dk_at dksX7_next_2 20 rfl rfl)
theorem dX7_next_66 : decode cX7_next 66 = .ok (.getfield 24, 3) := dk_180 0 24 (dk_at dksX7_next_2 21 rfl rfl)
theorem dX7_next_69 : decode cX7_next 69 = .ok (.putfield 37, 3) := dk_181 0 37 (dk_at dksX7_next_3 0 rfl rfl)
theorem dX7_next_72 : decode cX7_next 72 = .ok (.aload_n 0, 1) := dk_42 (dk_at dksX7_next_3 3 rfl rfl)
theorem dX7_next_73 : decode cX7_next 73 = .ok (.iconst 0, 1) := dk_3 (dk_at dksX7_next_3 4 rfl rfl)
theorem dX7_next_74 : decode cX7_next 74 = .ok (.putfield 51, 3) := dk_181 0 51 (dk_at dksX7_next_3 5 rfl rfl)
theorem dX7_next_77 : decode cX7_next 77 = .ok (.goto 281, 3) := dk_167 1 25 (dk_at dksX7_next_3 8 rfl rfl)
theorem dX7_next_80 : decode cX7_next 80 = .ok (.iload_n 1, 1) := dk_27 (dk_at dksX7_next_3 11 rfl rfl)
theorem dX7_next_81 : decode cX7_next 81 = .ok (.i2l, 1) := dk_133 (dk_at dksX7_next_3 12 rfl rfl)
theorem dX7_next_82 : decode cX7_next 82 = .ok (.ldc2_w 54, 3) := dk_20 0 54 (dk_at dksX7_next_3 13 rfl rfl)
theorem dX7_next_85 : decode cX7_next 85 = .ok (.ldc2_w 56, 3) := dk_20 0 56 (dk_at dksX7_next_3 16 rfl rfl)
theorem dX7_next_88 : decode cX7_next 88 = .ok (.invokestatic 58, 3) := dk_184 0 58 (dk_at dksX7_next_3 19 rfl rfl)
theorem dX7_next_91 : decode cX7_next 91 = .ok (.ifCond .eq 105, 3) := dk_153 0 105 (dk_at dksX7_next_4 0 rfl rfl)
theorem dX7_next_94 : decode cX7_next 94 = .ok (.aload_n 0, 1) := dk_42 (dk_at dksX7_next_4 3 rfl rfl)
theorem dX7_next_95 : decode cX7_next 95 = .ok (.aload_n 0, 1) := dk_42 (dk_at dksX7_next_4 4 rfl rfl)
theorem dX7_next_96 : decode cX7_next 96 = .ok (.getfield 37, 3) := dk_180 0 37 (dk_at dksX7_next_4 5 rfl rfl)
theorem dX7_next_99 : decode cX7_next 99 = .ok (.invokevirtual 44, 3) := dk_182 0 44 (dk_at dksX7_next_4 8 rfl rfl)
theorem dX7_next_102 : decode cX7_next 102 = .ok (.i2l, 1) := dk_133 (dk_at dksX7_next_4 11 rfl rfl)
theorem dX7_next_103 : decode cX7_next 103 = .ok (.ldc2_w 54, 3) := dk_20 0 54 (dk_at dksX7_next_4 12 rfl rfl)
theorem dX7_next_106 : decode cX7_next 106 = .ok (.ldc2_w 56, 3) := dk_20 0 56 (dk_at dksX7_next_4 15 rfl rfl)
theorem dX7_next_109 : decode cX7_next 109 = .ok (.invokestatic 58, 3) := dk_184 0 58 (dk_at dksX7_next_4 18 rfl rfl)
theorem dX7_next_112 : decode cX7_next 112 = .ok (.ifCond .eq 16, 3) := dk_153 0 16 (dk_at dksX7_next_4 21 rfl rfl)
theorem dX7_next_115 : decode cX7_next 115 = .ok (.aload_n 0, 1) := dk_42 (dk_at dksX7_next_5 0 rfl rfl)
theorem dX7_next_116 : decode cX7_next 116 = .ok (.dup, 1) := dk_89 (dk_at dksX7_next_5 1 rfl rfl)
theorem dX7_next_117 : decode cX7_next 117 = .ok (.getfield 37, 3) := dk_180 0 37 (dk_at dksX7_next_5 2 rfl rfl)
theorem dX7_next_120 : decode cX7_next 120 = .ok (.iconst 1, 1) := dk_4 (dk_at dksX7_next_5 5 rfl rfl)
theorem dX7_next_121 : decode cX7_next 121 = .ok (.iadd, 1) := dk_96 (dk_at dksX7_next_5 6 rfl rfl)
theorem dX7_next_122 : decode cX7_next 122 = .ok (.putfield 37, 3) := dk_181 0 37 (dk_at dksX7_next_5 7 rfl rfl)
theorem dX7_next_125 : decode cX7_next 125 = .ok (.goto (-31), 3) := dk_167 255 225 (dk_at dksX7_next_5 10 rfl rfl)
theorem dX7_next_128 : decode cX7_next 128 = .ok (.aload_n 0, 1) := dk_42 (dk_at dksX7_next_5 13 rfl rfl)
theorem dX7_next_129 : decode cX7_next 129 = .ok (.iconst 1, 1) := dk_4 (dk_at dksX7_next_5 14 rfl rfl)
theorem dX7_next_130 : decode cX7_next 130 = .ok (.putfield 51, 3) := dk_181 0 51 (dk_at dksX7_next_5 15 rfl rfl)
theorem dX7_next_133 : decode cX7_next 133 = .ok (.aload_n 0, 1) := dk_42 (dk_at dksX7_next_5 18 rfl rfl)
theorem dX7_next_134 : decode cX7_next 134 = .ok (.getfield 48, 3) := dk_180 0 48 (dk_at dksX7_next_5 19 rfl rfl)
theorem dX7_next_137 : decode cX7_next 137 = .ok (.getstatic 62, 3) := dk_178 0 62 (dk_at dksX7_next_6 0 rfl rfl)
theorem dX7_next_140 : decode cX7_next 140 = .ok (.arraylength, 1) := dk_190 (dk_at dksX7_next_6 3 rfl rfl)
theorem dX7_next_141 : decode cX7_next 141 = .ok (.if_icmp .ge 31, 3) := dk_162 0 31 (dk_at dksX7_next_6 4 rfl rfl)
theorem dX7_next_144 : decode cX7_next 144 = .ok (.aload_n 0, 1) := dk_42 (dk_at dksX7_next_6 7 rfl rfl)
theorem dX7_next_145 : decode cX7_next 145 = .ok (.getstatic 62, 3) := dk_178 0 62 (dk_at dksX7_next_6 8 rfl rfl)
theorem dX7_next_148 : decode cX7_next 148 = .ok (.aload_n 0, 1) := dk_42 (dk_at dksX7_next_6 11 rfl rfl)
theorem dX7_next_149 : decode cX7_next 149 = .ok (.getfield 48, 3) := dk_180 0 48 (dk_at dksX7_next_6 12 rfl rfl)
theorem dX7_next_152 : decode cX7_next 152 = .ok (.aaload, 1) := dk_50 (dk_at dksX7_next_6 15 rfl rfl)
theorem dX7_next_153 : decode cX7_next 153 = .ok (.invokevirtual 66, 3) := dk_182 0 66 (dk_at dksX7_next_6 16 rfl rfl)
theorem dX7_next_156 : decode cX7_next 156 = .ok (.ifCond .ne 16, 3) := dk_154 0 16 (dk_at dksX7_next_6 19 rfl rfl)
theorem dX7_next_159 : decode cX7_next 159 = .ok (.aload_n 0, 1) := dk_42 (dk_at dksX7_next_6 22 rfl rfl)
theorem dX7_next_160 : decode cX7_next 160 = .ok (.dup, 1) := dk_89 (dk_at dksX7_next_6 23 rfl rfl)
theorem dX7_next_161 : decode cX7_next 161 = .ok (.getfield 48, 3) := dk_180 0 48 (dk_at dksX7_next_7 0 rfl rfl)
theorem dX7_next_164 : decode cX7_next 164 = .ok (.iconst 1, 1) := dk_4 (dk_at dksX7_next_7 3 rfl rfl)
theorem dX7_next_165 : decode cX7_next 165 = .ok (.iadd, 1) := dk_96 (dk_at dksX7_next_7 4 rfl rfl)
theorem dX7_next_166 : decode cX7_next 166 = .ok (.putfield 48, 3) := dk_181 0 48 (dk_at dksX7_next_7 5 rfl rfl)
theorem dX7_next_169 : decode cX7_next 169 = .ok (.goto (-36), 3) := dk_167 255 220 (dk_at dksX7_next_7 8 rfl rfl)
theorem dX7_next_172 : decode cX7_next 172 = .ok (.aload_n 0, 1) := dk_42 (dk_at dksX7_next_7 11 rfl rfl)
theorem dX7_next_173 : decode cX7_next 173 = .ok (.aload_n 0, 1) := dk_42 (dk_at dksX7_next_7 12 rfl rfl)
theorem dX7_next_174 : decode cX7_next 174 = .ok (.getfield 48, 3) := dk_180 0 48 (dk_at dksX7_next_7 13 rfl rfl)
theorem dX7_next_177 : decode cX7_next 177 = .ok (.getstatic 62, 3) := dk_178 0 62 (dk_at dksX7_next_7 16 rfl rfl)
theorem dX7_next_180 : decode cX7_next 180 = .ok (.arraylength, 1) := dk_190 (dk_at dksX7_next_7 19 rfl rfl)
theorem dX7_next_181 : decode cX7_next 181 = .ok (.if_icmp .ge 7, 3) := dk_162 0 7 (dk_at dksX7_next_7 20 rfl rfl)
theorem dX7_next_184 : decode cX7_next 184 = .ok (.iconst 1, 1) := dk_4 (dk_at dksX7_next_7 23 rfl rfl)
theorem dX7_next_185 : decode cX7_next 185 = .ok (.goto 4, 3) := dk_167 0 4 (dk_at dksX7_next_8 0 rfl rfl)
theorem dX7_next_188 : decode cX7_next 188 = .ok (.iconst 0, 1) := dk_3 (dk_at dksX7_next_8 3 rfl rfl)
theorem dX7_next_189 : decode cX7_next 189 = .ok (.iconst 1, 1) := dk_4 (dk_at dksX7_next_8 4 rfl rfl)
theorem dX7_next_190 : decode cX7_next 190 = .ok (.invokevirtual 70, 3) := dk_182 0 70 (dk_at dksX7_next_8 5 rfl rfl)
theorem dX7_next_193 : decode cX7_next 193 = .ok (.goto 165, 3) := dk_167 0 165 (dk_at dksX7_next_8 8 rfl rfl)
theorem dX7_next_196 : decode cX7_next 196 = .ok (.iload_n 1, 1) := dk_27 (dk_at dksX7_next_8 11 rfl rfl)
theorem dX7_next_197 : decode cX7_next 197 = .ok (.i2l, 1) := dk_133 (dk_at dksX7_next_8 12 rfl rfl)
theorem dX7_next_198 : decode cX7_next 198 = .ok (.ldc2_w 74, 3) := dk_20 0 74 (dk_at dksX7_next_8 13 rfl rfl)
theorem dX7_next_201 : decode cX7_next 201 = .ok (.ldc2_w 76, 3) := dk_20 0 76 (dk_at dksX7_next_8 16 rfl rfl)
theorem dX7_next_204 : decode cX7_next 204 = .ok (.invokestatic 58, 3) := dk_184 0 58 (dk_at dksX7_next_8 19 rfl rfl)
theorem dX7_next_207 : decode cX7_next 207 = .ok (.ifCond .eq 119, 3) := dk_153 0 119 (dk_at dksX7_next_9 0 rfl rfl)
theorem dX7_next_210 : decode cX7_next 210 = .ok (.aload_n 0, 1) := dk_42 (dk_at dksX7_next_9 3 rfl rfl)
theorem dX7_next_211 : decode cX7_next 211 = .ok (.aload_n 0, 1) := dk_42 (dk_at dksX7_next_9 4 rfl rfl)
theorem dX7_next_212 : decode cX7_next 212 = .ok (.getfield 24, 3) := dk_180 0 24 (dk_at dksX7_next_9 5 rfl rfl)
theorem dX7_next_215 : decode cX7_next 215 = .ok (.putfield 37, 3) := dk_181 0 37 (dk_at dksX7_next_9 8 rfl rfl)
theorem dX7_next_218 : decode cX7_next 218 = .ok (.aload_n 0, 1) := dk_42 (dk_at dksX7_next_9 11 rfl rfl)
theorem dX7_next_219 : decode cX7_next 219 = .ok (.aload_n 0, 1) := dk_42 (dk_at dksX7_next_9 12 rfl rfl)
theorem dX7_next_220 : decode cX7_next 220 = .ok (.getfield 37, 3) := dk_180 0 37 (dk_at dksX7_next_9 13 rfl rfl)
theorem dX7_next_223 : decode cX7_next 223 = .ok (.invokevirtual 44, 3) := dk_182 0 44 (dk_at dksX7_next_9 16 rfl rfl)
theorem dX7_next_226 : decode cX7_next 226 = .ok (.i2l, 1) := dk_133 (dk_at dksX7_next_9 19 rfl rfl)
theorem dX7_next_227 : decode cX7_next 227 = .ok (.ldc2_w 74, 3) := dk_20 0 74 (dk_at dksX7_next_9 20 rfl rfl)
theorem dX7_next_230 : decode cX7_next 230 = .ok (.ldc2_w 76, 3) := dk_20 0 76 (dk_at dksX7_next_10 0 rfl rfl)
theorem dX7_next_233 : decode cX7_next 233 = .ok (.invokestatic 58, 3) := dk_184 0 58 (dk_at dksX7_next_10 3 rfl rfl)
theorem dX7_next_236 : decode cX7_next 236 = .ok (.ifCond .eq 59, 3) := dk_153 0 59 (dk_at dksX7_next_10 6 rfl rfl)
theorem dX7_next_239 : decode cX7_next 239 = .ok (.aload_n 0, 1) := dk_42 (dk_at dksX7_next_10 9 rfl rfl)
theorem dX7_next_240 : decode cX7_next 240 = .ok (.aload_n 0, 1) := dk_42 (dk_at dksX7_next_10 10 rfl rfl)
theorem dX7_next_241 : decode cX7_next 241 = .ok (.getfield 37, 3) := dk_180 0 37 (dk_at dksX7_next_10 11 rfl rfl)
theorem dX7_next_244 : decode cX7_next 244 = .ok (.aload_n 0, 1) := dk_42 (dk_at dksX7_next_10 14 rfl rfl)
theorem dX7_next_245 : decode cX7_next 245 = .ok (.getfield 24, 3) := dk_180 0 24 (dk_at dksX7_next_10 15 rfl rfl)
theorem dX7_next_248 : decode cX7_next 248 = .ok (.isub, 1) := dk_100 (dk_at dksX7_next_10 18 rfl rfl)
theorem dX7_next_249 : decode cX7_next 249 = .ok (.iconst 2, 1) := dk_5 (dk_at dksX7_next_10 19 rfl rfl)
theorem dX7_next_250 : decode cX7_next 250 = .ok (.if_icmp .ge 25, 3) := dk_162 0 25 (dk_at dksX7_next_10 20 rfl rfl)
theorem dX7_next_253 : decode cX7_next 253 = .ok (.bipush 10, 2) := dk_16 10 (dk_at dksX7_next_11 0 rfl rfl)
theorem dX7_next_255 : decode cX7_next 255 = .ok (.aload_n 0, 1) := dk_42 (dk_at dksX7_next_11 2 rfl rfl)
theorem dX7_next_256 : decode cX7_next 256 = .ok (.getfield 48, 3) := dk_180 0 48 (dk_at dksX7_next_11 3 rfl rfl)
theorem dX7_next_259 : decode cX7_next 259 = .ok (.imul, 1) := dk_104 (dk_at dksX7_next_11 6 rfl rfl)
theorem dX7_next_260 : decode cX7_next 260 = .ok (.aload_n 0, 1) := dk_42 (dk_at dksX7_next_11 7 rfl rfl)
theorem dX7_next_261 : decode cX7_next 261 = .ok (.aload_n 0, 1) := dk_42 (dk_at dksX7_next_11 8 rfl rfl)
theorem dX7_next_262 : decode cX7_next 262 = .ok (.getfield 37, 3) := dk_180 0 37 (dk_at dksX7_next_11 9 rfl rfl)
theorem dX7_next_265 : decode cX7_next 265 = .ok (.invokevirtual 44, 3) := dk_182 0 44 (dk_at dksX7_next_11 12 rfl rfl)
theorem dX7_next_268 : decode cX7_next 268 = .ok (.iadd, 1) := dk_96 (dk_at dksX7_next_11 15 rfl rfl)
theorem dX7_next_269 : decode cX7_next 269 = .ok (.bipush 48, 2) := dk_16 48 (dk_at dksX7_next_11 16 rfl rfl)
theorem dX7_next_271 : decode cX7_next 271 = .ok (.isub, 1) := dk_100 (dk_at dksX7_next_11 18 rfl rfl)
theorem dX7_next_272 : decode cX7_next 272 = .ok (.goto 7, 3) := dk_167 0 7 (dk_at dksX7_next_11 19 rfl rfl)
theorem dX7_next_275 : decode cX7_next 275 = .ok (.aload_n 0, 1) := dk_42 (dk_at dksX7_next_11 22 rfl rfl)
theorem dX7_next_276 : decode cX7_next 276 = .ok (.getfield 48, 3) := dk_180 0 48 (dk_at dksX7_next_12 0 rfl rfl)
theorem dX7_next_279 : decode cX7_next 279 = .ok (.putfield 48, 3) := dk_181 0 48 (dk_at dksX7_next_12 3 rfl rfl)
theorem dX7_next_282 : decode cX7_next 282 = .ok (.aload_n 0, 1) := dk_42 (dk_at dksX7_next_12 6 rfl rfl)
theorem dX7_next_283 : decode cX7_next 283 = .ok (.dup, 1) := dk_89 (dk_at dksX7_next_12 7 rfl rfl)
theorem dX7_next_284 : decode cX7_next 284 = .ok (.getfield 37, 3) := dk_180 0 37 (dk_at dksX7_next_12 8 rfl rfl)
theorem dX7_next_287 : decode cX7_next 287 = .ok (.iconst 1, 1) := dk_4 (dk_at dksX7_next_12 11 rfl rfl)
theorem dX7_next_288 : decode cX7_next 288 = .ok (.iadd, 1) := dk_96 (dk_at dksX7_next_12 12 rfl rfl)
theorem dX7_next_289 : decode cX7_next 289 = .ok (.putfield 37, 3) := dk_181 0 37 (dk_at dksX7_next_12 13 rfl rfl)
theorem dX7_next_292 : decode cX7_next 292 = .ok (.goto (-74), 3) := dk_167 255 182 (dk_at dksX7_next_12 16 rfl rfl)
theorem dX7_next_295 : decode cX7_next 295 = .ok (.aload_n 0, 1) := dk_42 (dk_at dksX7_next_12 19 rfl rfl)
theorem dX7_next_296 : decode cX7_next 296 = .ok (.aload_n 0, 1) := dk_42 (dk_at dksX7_next_12 20 rfl rfl)
theorem dX7_next_297 : decode cX7_next 297 = .ok (.getfield 37, 3) := dk_180 0 37 (dk_at dksX7_next_12 21 rfl rfl)
theorem dX7_next_300 : decode cX7_next 300 = .ok (.aload_n 0, 1) := dk_42 (dk_at dksX7_next_13 0 rfl rfl)
theorem dX7_next_301 : decode cX7_next 301 = .ok (.getfield 24, 3) := dk_180 0 24 (dk_at dksX7_next_13 1 rfl rfl)
theorem dX7_next_304 : decode cX7_next 304 = .ok (.isub, 1) := dk_100 (dk_at dksX7_next_13 4 rfl rfl)
theorem dX7_next_305 : decode cX7_next 305 = .ok (.iconst 2, 1) := dk_5 (dk_at dksX7_next_13 5 rfl rfl)
theorem dX7_next_306 : decode cX7_next 306 = .ok (.if_icmp .gt 7, 3) := dk_163 0 7 (dk_at dksX7_next_13 6 rfl rfl)
theorem dX7_next_309 : decode cX7_next 309 = .ok (.iconst 1, 1) := dk_4 (dk_at dksX7_next_13 9 rfl rfl)
theorem dX7_next_310 : decode cX7_next 310 = .ok (.goto 4, 3) := dk_167 0 4 (dk_at dksX7_next_13 10 rfl rfl)
theorem dX7_next_313 : decode cX7_next 313 = .ok (.iconst 0, 1) := dk_3 (dk_at dksX7_next_13 13 rfl rfl)
theorem dX7_next_314 : decode cX7_next 314 = .ok (.iconst 1, 1) := dk_4 (dk_at dksX7_next_13 14 rfl rfl)
theorem dX7_next_315 : decode cX7_next 315 = .ok (.invokevirtual 70, 3) := dk_182 0 70 (dk_at dksX7_next_13 15 rfl rfl)
theorem dX7_next_318 : decode cX7_next 318 = .ok (.aload_n 0, 1) := dk_42 (dk_at dksX7_next_13 18 rfl rfl)
theorem dX7_next_319 : decode cX7_next 319 = .ok (.iconst 2, 1) := dk_5 (dk_at dksX7_next_13 19 rfl rfl)
theorem dX7_next_320 : decode cX7_next 320 = .ok (.putfield 51, 3) := dk_181 0 51 (dk_at dksX7_next_13 20 rfl rfl)
theorem dX7_next_323 : decode cX7_next 323 = .ok (.goto 35, 3) := dk_167 0 35 (dk_at dksX7_next_14 0 rfl rfl)
theorem dX7_next_326 : decode cX7_next 326 = .ok (.aload_n 0, 1) := dk_42 (dk_at dksX7_next_14 3 rfl rfl)
theorem dX7_next_327 : decode cX7_next 327 = .ok (.iload_n 1, 1) := dk_27 (dk_at dksX7_next_14 4 rfl rfl)
theorem dX7_next_328 : decode cX7_next 328 = .ok (.bipush 59, 2) := dk_16 59 (dk_at dksX7_next_14 5 rfl rfl)
theorem dX7_next_330 : decode cX7_next 330 = .ok (.if_icmp .eq 9, 3) := dk_159 0 9 (dk_at dksX7_next_14 7 rfl rfl)
theorem dX7_next_333 : decode cX7_next 333 = .ok (.iload_n 1, 1) := dk_27 (dk_at dksX7_next_14 10 rfl rfl)
theorem dX7_next_334 : decode cX7_next 334 = .ok (.bipush 44, 2) := dk_16 44 (dk_at dksX7_next_14 11 rfl rfl)
theorem dX7_next_336 : decode cX7_next 336 = .ok (.if_icmp .ne 7, 3) := dk_160 0 7 (dk_at dksX7_next_14 13 rfl rfl)
theorem dX7_next_339 : decode cX7_next 339 = .ok (.iconst 1, 1) := dk_4 (dk_at dksX7_next_14 16 rfl rfl)
theorem dX7_next_340 : decode cX7_next 340 = .ok (.goto 4, 3) := dk_167 0 4 (dk_at dksX7_next_14 17 rfl rfl)
theorem dX7_next_343 : decode cX7_next 343 = .ok (.iconst 0, 1) := dk_3 (dk_at dksX7_next_14 20 rfl rfl)
theorem dX7_next_344 : decode cX7_next 344 = .ok (.iconst 1, 1) := dk_4 (dk_at dksX7_next_14 21 rfl rfl)
theorem dX7_next_345 : decode cX7_next 345 = .ok (.invokevirtual 70, 3) := dk_182 0 70 (dk_at dksX7_next_15 0 rfl rfl)
theorem dX7_next_348 : decode cX7_next 348 = .ok (.aload_n 0, 1) := dk_42 (dk_at dksX7_next_15 3 rfl rfl)
theorem dX7_next_349 : decode cX7_next 349 = .ok (.iconst 3, 1) := dk_6 (dk_at dksX7_next_15 4 rfl rfl)
theorem dX7_next_350 : decode cX7_next 350 = .ok (.putfield 51, 3) := dk_181 0 51 (dk_at dksX7_next_15 5 rfl rfl)
theorem dX7_next_353 : decode cX7_next 353 = .ok (.aload_n 0, 1) := dk_42 (dk_at dksX7_next_15 8 rfl rfl)
theorem dX7_next_354 : decode cX7_next 354 = .ok (.iload_n 1, 1) := dk_27 (dk_at dksX7_next_15 9 rfl rfl)
theorem dX7_next_355 : decode cX7_next 355 = .ok (.putfield 48, 3) := dk_181 0 48 (dk_at dksX7_next_15 10 rfl rfl)
theorem dX7_next_358 : decode cX7_next 358 = .ok (.return_, 1) := dk_177 (dk_at dksX7_next_15 13 rfl rfl)
abbrev cX7_at : ByteArray := prog_5_method_2_code
def yX7_at : MethodName := ⟨RX7, "at", "(I)I"⟩
def dkwX7_at_1 : List UInt8 := [172]
abbrev dktX7_at_1 : List UInt8 := dkwX7_at_1 ++ []
def dkwX7_at_0 : List UInt8 := [27, 42, 180, 0, 15, 190, 162, 0, 16, 42, 180, 0, 15, 27, 51, 17, 0, 255, 126, 167, 0, 5, 16, 252]
abbrev dktX7_at_0 : List UInt8 := dkwX7_at_0 ++ dktX7_at_1
theorem dksX7_at_0 : cX7_at.data.toList.drop 0 = dktX7_at_0 := by decide +kernel
theorem dksX7_at_1 : cX7_at.data.toList.drop 24 = dktX7_at_1 := dk_seg dksX7_at_0 24 rfl rfl
theorem dX7_at_0 : decode cX7_at 0 = .ok (.iload_n 1, 1) := dk_27 (dk_at dksX7_at_0 0 rfl rfl)
theorem dX7_at_1 : decode cX7_at 1 = .ok (.aload_n 0, 1) := dk_42 (dk_at dksX7_at_0 1 rfl rfl)
theorem dX7_at_2 : decode cX7_at 2 = .ok (.getfield 15, 3) := dk_180 0 15 (dk_at dksX7_at_0 2 rfl rfl)
theorem dX7_at_5 : decode cX7_at 5 = .ok (.arraylength, 1) := dk_190 (dk_at dksX7_at_0 5 rfl rfl)
theorem dX7_at_6 : decode cX7_at 6 = .ok (.if_icmp .ge 16, 3) := dk_162 0 16 (dk_at dksX7_at_0 6 rfl rfl)
theorem dX7_at_9 : decode cX7_at 9 = .ok (.aload_n 0, 1) := dk_42 (dk_at dksX7_at_0 9 rfl rfl)
theorem dX7_at_10 : decode cX7_at 10 = .ok (.getfield 15, 3) := dk_180 0 15 (dk_at dksX7_at_0 10 rfl rfl)
theorem dX7_at_13 : decode cX7_at 13 = .ok (.iload_n 1, 1) := dk_27 (dk_at dksX7_at_0 13 rfl rfl)
theorem dX7_at_14 : decode cX7_at 14 = .ok (.baload, 1) := dk_51 (dk_at dksX7_at_0 14 rfl rfl)
theorem dX7_at_15 : decode cX7_at 15 = .ok (.sipush 255, 3) := dk_17 0 255 (dk_at dksX7_at_0 15 rfl rfl)
theorem dX7_at_18 : decode cX7_at 18 = .ok (.iand, 1) := dk_126 (dk_at dksX7_at_0 18 rfl rfl)
theorem dX7_at_19 : decode cX7_at 19 = .ok (.goto 5, 3) := dk_167 0 5 (dk_at dksX7_at_0 19 rfl rfl)
theorem dX7_at_22 : decode cX7_at 22 = .ok (.bipush (-4), 2) := dk_16 252 (dk_at dksX7_at_0 22 rfl rfl)
theorem dX7_at_24 : decode cX7_at 24 = .ok (.ireturn, 1) := dk_172 (dk_at dksX7_at_1 0 rfl rfl)
abbrev cX7_isSpelt : ByteArray := prog_5_method_4_code
def yX7_isSpelt : MethodName := ⟨RX7, "isSpelt", "(Ljava/lang/String;)Z"⟩
def dkwX7_isSpelt_2 : List UInt8 := [182, 0, 44, 160, 0, 7, 4, 167, 0, 4, 3, 61, 132, 3, 1, 167, 255, 217, 28, 172]
abbrev dktX7_isSpelt_2 : List UInt8 := dkwX7_isSpelt_2 ++ []
def dkwX7_isSpelt_1 : List UInt8 := [29, 43, 182, 0, 31, 162, 0, 37, 28, 153, 0, 33, 43, 29, 182, 0, 40, 42, 42, 180, 0, 24, 29, 96]
abbrev dktX7_isSpelt_1 : List UInt8 := dkwX7_isSpelt_1 ++ dktX7_isSpelt_2
def dkwX7_isSpelt_0 : List UInt8 := [43, 182, 0, 31, 42, 180, 0, 37, 42, 180, 0, 24, 100, 160, 0, 7, 4, 167, 0, 4, 3, 61, 3, 62]
abbrev dktX7_isSpelt_0 : List UInt8 := dkwX7_isSpelt_0 ++ dktX7_isSpelt_1
theorem dksX7_isSpelt_0 : cX7_isSpelt.data.toList.drop 0 = dktX7_isSpelt_0 := by decide +kernel
theorem dksX7_isSpelt_1 : cX7_isSpelt.data.toList.drop 24 = dktX7_isSpelt_1 := dk_seg dksX7_isSpelt_0 24 rfl rfl
theorem dksX7_isSpelt_2 : cX7_isSpelt.data.toList.drop 48 = dktX7_isSpelt_2 := dk_seg dksX7_isSpelt_1 24 rfl rfl
theorem dX7_isSpelt_0 : decode cX7_isSpelt 0 = .ok (.aload_n 1, 1) := dk_43 (dk_at dksX7_isSpelt_0 0 rfl rfl)
theorem dX7_isSpelt_1 : decode cX7_isSpelt 1 = .ok (.invokevirtual 31, 3) := dk_182 0 31 (dk_at dksX7_isSpelt_0 1 rfl rfl)
theorem dX7_isSpelt_4 : decode cX7_isSpelt 4 = .ok (.aload_n 0, 1) := dk_42 (dk_at dksX7_isSpelt_0 4 rfl rfl)
theorem dX7_isSpelt_5 : decode cX7_isSpelt 5 = .ok (.getfield 37, 3) := dk_180 0 37 (dk_at dksX7_isSpelt_0 5 rfl rfl)
theorem dX7_isSpelt_8 : decode cX7_isSpelt 8 = .ok (.aload_n 0, 1) := dk_42 (dk_at dksX7_isSpelt_0 8 rfl rfl)
theorem dX7_isSpelt_9 : decode cX7_isSpelt 9 = .ok (.getfield 24, 3) := dk_180 0 24 (dk_at dksX7_isSpelt_0 9 rfl rfl)
theorem dX7_isSpelt_12 : decode cX7_isSpelt 12 = .ok (.isub, 1) := dk_100 (dk_at dksX7_isSpelt_0 12 rfl rfl)
theorem dX7_isSpelt_13 : decode cX7_isSpelt 13 = .ok (.if_icmp .ne 7, 3) := dk_160 0 7 (dk_at dksX7_isSpelt_0 13 rfl rfl)
theorem dX7_isSpelt_16 : decode cX7_isSpelt 16 = .ok (.iconst 1, 1) := dk_4 (dk_at dksX7_isSpelt_0 16 rfl rfl)
theorem dX7_isSpelt_17 : decode cX7_isSpelt 17 = .ok (.goto 4, 3) := dk_167 0 4 (dk_at dksX7_isSpelt_0 17 rfl rfl)
theorem dX7_isSpelt_20 : decode cX7_isSpelt 20 = .ok (.iconst 0, 1) := dk_3 (dk_at dksX7_isSpelt_0 20 rfl rfl)
theorem dX7_isSpelt_21 : decode cX7_isSpelt 21 = .ok (.istore_n 2, 1) := dk_61 (dk_at dksX7_isSpelt_0 21 rfl rfl)
theorem dX7_isSpelt_22 : decode cX7_isSpelt 22 = .ok (.iconst 0, 1) := dk_3 (dk_at dksX7_isSpelt_0 22 rfl rfl)
theorem dX7_isSpelt_23 : decode cX7_isSpelt 23 = .ok (.istore_n 3, 1) := dk_62 (dk_at dksX7_isSpelt_0 23 rfl rfl)
theorem dX7_isSpelt_24 : decode cX7_isSpelt 24 = .ok (.iload_n 3, 1) := dk_29 (dk_at dksX7_isSpelt_1 0 rfl rfl)
theorem dX7_isSpelt_25 : decode cX7_isSpelt 25 = .ok (.aload_n 1, 1) := dk_43 (dk_at dksX7_isSpelt_1 1 rfl rfl)
theorem dX7_isSpelt_26 : decode cX7_isSpelt 26 = .ok (.invokevirtual 31, 3) := dk_182 0 31 (dk_at dksX7_isSpelt_1 2 rfl rfl)
theorem dX7_isSpelt_29 : decode cX7_isSpelt 29 = .ok (.if_icmp .ge 37, 3) := dk_162 0 37 (dk_at dksX7_isSpelt_1 5 rfl rfl)
theorem dX7_isSpelt_32 : decode cX7_isSpelt 32 = .ok (.iload_n 2, 1) := dk_28 (dk_at dksX7_isSpelt_1 8 rfl rfl)
theorem dX7_isSpelt_33 : decode cX7_isSpelt 33 = .ok (.ifCond .eq 33, 3) := dk_153 0 33 (dk_at dksX7_isSpelt_1 9 rfl rfl)
theorem dX7_isSpelt_36 : decode cX7_isSpelt 36 = .ok (.aload_n 1, 1) := dk_43 (dk_at dksX7_isSpelt_1 12 rfl rfl)
theorem dX7_isSpelt_37 : decode cX7_isSpelt 37 = .ok (.iload_n 3, 1) := dk_29 (dk_at dksX7_isSpelt_1 13 rfl rfl)
theorem dX7_isSpelt_38 : decode cX7_isSpelt 38 = .ok (.invokevirtual 40, 3) := dk_182 0 40 (dk_at dksX7_isSpelt_1 14 rfl rfl)
theorem dX7_isSpelt_41 : decode cX7_isSpelt 41 = .ok (.aload_n 0, 1) := dk_42 (dk_at dksX7_isSpelt_1 17 rfl rfl)
theorem dX7_isSpelt_42 : decode cX7_isSpelt 42 = .ok (.aload_n 0, 1) := dk_42 (dk_at dksX7_isSpelt_1 18 rfl rfl)
theorem dX7_isSpelt_43 : decode cX7_isSpelt 43 = .ok (.getfield 24, 3) := dk_180 0 24 (dk_at dksX7_isSpelt_1 19 rfl rfl)
theorem dX7_isSpelt_46 : decode cX7_isSpelt 46 = .ok (.iload_n 3, 1) := dk_29 (dk_at dksX7_isSpelt_1 22 rfl rfl)
theorem dX7_isSpelt_47 : decode cX7_isSpelt 47 = .ok (.iadd, 1) := dk_96 (dk_at dksX7_isSpelt_1 23 rfl rfl)
theorem dX7_isSpelt_48 : decode cX7_isSpelt 48 = .ok (.invokevirtual 44, 3) := dk_182 0 44 (dk_at dksX7_isSpelt_2 0 rfl rfl)
theorem dX7_isSpelt_51 : decode cX7_isSpelt 51 = .ok (.if_icmp .ne 7, 3) := dk_160 0 7 (dk_at dksX7_isSpelt_2 3 rfl rfl)
theorem dX7_isSpelt_54 : decode cX7_isSpelt 54 = .ok (.iconst 1, 1) := dk_4 (dk_at dksX7_isSpelt_2 6 rfl rfl)
theorem dX7_isSpelt_55 : decode cX7_isSpelt 55 = .ok (.goto 4, 3) := dk_167 0 4 (dk_at dksX7_isSpelt_2 7 rfl rfl)
theorem dX7_isSpelt_58 : decode cX7_isSpelt 58 = .ok (.iconst 0, 1) := dk_3 (dk_at dksX7_isSpelt_2 10 rfl rfl)
theorem dX7_isSpelt_59 : decode cX7_isSpelt 59 = .ok (.istore_n 2, 1) := dk_61 (dk_at dksX7_isSpelt_2 11 rfl rfl)
theorem dX7_isSpelt_60 : decode cX7_isSpelt 60 = .ok (.iinc 3 1, 3) := dk_132 3 1 (dk_at dksX7_isSpelt_2 12 rfl rfl)
theorem dX7_isSpelt_63 : decode cX7_isSpelt 63 = .ok (.goto (-39), 3) := dk_167 255 217 (dk_at dksX7_isSpelt_2 15 rfl rfl)
theorem dX7_isSpelt_66 : decode cX7_isSpelt 66 = .ok (.iload_n 2, 1) := dk_28 (dk_at dksX7_isSpelt_2 18 rfl rfl)
theorem dX7_isSpelt_67 : decode cX7_isSpelt 67 = .ok (.ireturn, 1) := dk_172 (dk_at dksX7_isSpelt_2 19 rfl rfl)
abbrev cX7_must : ByteArray := prog_5_method_3_code
def yX7_must : MethodName := ⟨RX7, "must", "(ZI)V"⟩
def dkwX7_must_0 : List UInt8 := [27, 154, 0, 16, 187, 0, 22, 89, 28, 42, 180, 0, 24, 183, 0, 28, 191, 177]
abbrev dktX7_must_0 : List UInt8 := dkwX7_must_0 ++ []
theorem dksX7_must_0 : cX7_must.data.toList.drop 0 = dktX7_must_0 := by decide +kernel
theorem dX7_must_0 : decode cX7_must 0 = .ok (.iload_n 1, 1) := dk_27 (dk_at dksX7_must_0 0 rfl rfl)
theorem dX7_must_1 : decode cX7_must 1 = .ok (.ifCond .ne 16, 3) := dk_154 0 16 (dk_at dksX7_must_0 1 rfl rfl)
theorem dX7_must_4 : decode cX7_must 4 = .ok (.new 22, 3) := dk_187 0 22 (dk_at dksX7_must_0 4 rfl rfl)
theorem dX7_must_7 : decode cX7_must 7 = .ok (.dup, 1) := dk_89 (dk_at dksX7_must_0 7 rfl rfl)
theorem dX7_must_8 : decode cX7_must 8 = .ok (.iload_n 2, 1) := dk_28 (dk_at dksX7_must_0 8 rfl rfl)
theorem dX7_must_9 : decode cX7_must 9 = .ok (.aload_n 0, 1) := dk_42 (dk_at dksX7_must_0 9 rfl rfl)
theorem dX7_must_10 : decode cX7_must 10 = .ok (.getfield 24, 3) := dk_180 0 24 (dk_at dksX7_must_0 10 rfl rfl)
theorem dX7_must_13 : decode cX7_must 13 = .ok (.invokespecial 28, 3) := dk_183 0 28 (dk_at dksX7_must_0 13 rfl rfl)
theorem dX7_must_16 : decode cX7_must 16 = .ok (.athrow, 1) := dk_191 (dk_at dksX7_must_0 16 rfl rfl)
theorem dX7_must_17 : decode cX7_must 17 = .ok (.return_, 1) := dk_177 (dk_at dksX7_must_0 17 rfl rfl)
abbrev cX7_all : ByteArray := prog_5_method_9_code
def yX7_all : MethodName := ⟨RX7, "all", "()V"⟩
def dkwX7_all_0 : List UInt8 := [42, 180, 0, 51, 153, 0, 10, 42, 182, 0, 111, 167, 255, 245, 177]
abbrev dktX7_all_0 : List UInt8 := dkwX7_all_0 ++ []
theorem dksX7_all_0 : cX7_all.data.toList.drop 0 = dktX7_all_0 := by decide +kernel
theorem dX7_all_0 : decode cX7_all 0 = .ok (.aload_n 0, 1) := dk_42 (dk_at dksX7_all_0 0 rfl rfl)
theorem dX7_all_1 : decode cX7_all 1 = .ok (.getfield 51, 3) := dk_180 0 51 (dk_at dksX7_all_0 1 rfl rfl)
theorem dX7_all_4 : decode cX7_all 4 = .ok (.ifCond .eq 10, 3) := dk_153 0 10 (dk_at dksX7_all_0 4 rfl rfl)
theorem dX7_all_7 : decode cX7_all 7 = .ok (.aload_n 0, 1) := dk_42 (dk_at dksX7_all_0 7 rfl rfl)
theorem dX7_all_8 : decode cX7_all 8 = .ok (.invokevirtual 111, 3) := dk_182 0 111 (dk_at dksX7_all_0 8 rfl rfl)
theorem dX7_all_11 : decode cX7_all 11 = .ok (.goto (-11), 3) := dk_167 255 245 (dk_at dksX7_all_0 11 rfl rfl)
theorem dX7_all_14 : decode cX7_all 14 = .ok (.return_, 1) := dk_177 (dk_at dksX7_all_0 14 rfl rfl)
abbrev cX7_claim : ByteArray := prog_5_method_8_code
def yX7_claim : MethodName := ⟨RX7, "claim", "()V"⟩
def dkwX7_claim_11 : List UInt8 := [96, 181, 0, 78, 42, 182, 0, 19, 177]
abbrev dktX7_claim_11 : List UInt8 := dkwX7_claim_11 ++ []
def dkwX7_claim_10 : List UInt8 := [180, 0, 3, 180, 0, 81, 42, 180, 0, 3, 180, 0, 78, 44, 83, 42, 180, 0, 3, 89, 180, 0, 78, 4]
abbrev dktX7_claim_10 : List UInt8 := dkwX7_claim_10 ++ dktX7_claim_11
def dkwX7_claim_9 : List UInt8 := [153, 0, 11, 42, 44, 182, 0, 103, 167, 255, 242, 42, 42, 16, 59, 182, 0, 107, 5, 182, 0, 70, 42]
abbrev dktX7_claim_9 : List UInt8 := dkwX7_claim_9 ++ dktX7_claim_10
def dkwX7_claim_8 : List UInt8 := [160, 0, 33, 42, 180, 0, 48, 8, 160, 0, 25, 42, 44, 182, 0, 103, 42, 16, 44, 182, 0, 107]
abbrev dktX7_claim_8 : List UInt8 := dkwX7_claim_8 ++ dktX7_claim_9
def dkwX7_claim_7 : List UInt8 := [180, 0, 48, 42, 180, 0, 3, 180, 0, 97, 183, 0, 100, 77, 42, 182, 0, 19, 42, 180, 0, 51, 4]
abbrev dktX7_claim_7 : List UInt8 := dkwX7_claim_7 ++ dktX7_claim_8
def dkwX7_claim_6 : List UInt8 := [159, 0, 7, 4, 167, 0, 4, 3, 7, 182, 0, 70, 132, 2, 1, 167, 255, 180, 187, 0, 86, 89, 27, 42]
abbrev dktX7_claim_6 : List UInt8 := dkwX7_claim_6 ++ dktX7_claim_7
def dkwX7_claim_5 : List UInt8 := [50, 180, 0, 93, 27, 160, 0, 22, 42, 180, 0, 3, 180, 0, 81, 28, 50, 180, 0, 94, 42, 180, 0, 48]
abbrev dktX7_claim_5 : List UInt8 := dkwX7_claim_5 ++ dktX7_claim_6
def dkwX7_claim_4 : List UInt8 := [180, 0, 3, 180, 0, 81, 28, 50, 180, 0, 85, 16, 252, 160, 0, 38, 42, 180, 0, 3, 180, 0, 81, 28]
abbrev dktX7_claim_4 : List UInt8 := dkwX7_claim_4 ++ dktX7_claim_5
def dkwX7_claim_3 : List UInt8 := [167, 0, 4, 3, 5, 182, 0, 70, 3, 61, 28, 42, 180, 0, 3, 180, 0, 78, 162, 0, 71, 42, 42]
abbrev dktX7_claim_3 : List UInt8 := dkwX7_claim_3 ++ dktX7_claim_4
def dkwX7_claim_2 : List UInt8 := [182, 0, 70, 42, 180, 0, 48, 60, 42, 182, 0, 19, 42, 42, 180, 0, 51, 5, 160, 0, 7, 4]
abbrev dktX7_claim_2 : List UInt8 := dkwX7_claim_2 ++ dktX7_claim_3
def dkwX7_claim_1 : List UInt8 := [182, 0, 70, 42, 42, 180, 0, 3, 180, 0, 78, 16, 20, 162, 0, 7, 4, 167, 0, 4, 3, 8]
abbrev dktX7_claim_1 : List UInt8 := dkwX7_claim_1 ++ dktX7_claim_2
def dkwX7_claim_0 : List UInt8 := [42, 42, 180, 0, 51, 4, 160, 0, 15, 42, 180, 0, 48, 8, 162, 0, 7, 4, 167, 0, 4, 3, 5]
abbrev dktX7_claim_0 : List UInt8 := dkwX7_claim_0 ++ dktX7_claim_1
theorem dksX7_claim_0 : cX7_claim.data.toList.drop 0 = dktX7_claim_0 := by decide +kernel
theorem dksX7_claim_1 : cX7_claim.data.toList.drop 23 = dktX7_claim_1 := dk_seg dksX7_claim_0 23 rfl rfl
theorem dksX7_claim_2 : cX7_claim.data.toList.drop 45 = dktX7_claim_2 := dk_seg dksX7_claim_1 22 rfl rfl
theorem dksX7_claim_3 : cX7_claim.data.toList.drop 67 = dktX7_claim_3 := dk_seg dksX7_claim_2 22 rfl rfl
theorem dksX7_claim_4 : cX7_claim.data.toList.drop 90 = dktX7_claim_4 := dk_seg dksX7_claim_3 23 rfl rfl
theorem dksX7_claim_5 : cX7_claim.data.toList.drop 114 = dktX7_claim_5 := dk_seg dksX7_claim_4 24 rfl rfl
theorem dksX7_claim_6 : cX7_claim.data.toList.drop 138 = dktX7_claim_6 := dk_seg dksX7_claim_5 24 rfl rfl
theorem dksX7_claim_7 : cX7_claim.data.toList.drop 162 = dktX7_claim_7 := dk_seg dksX7_claim_6 24 rfl rfl
theorem dksX7_claim_8 : cX7_claim.data.toList.drop 185 = dktX7_claim_8 := dk_seg dksX7_claim_7 23 rfl rfl
theorem dksX7_claim_9 : cX7_claim.data.toList.drop 207 = dktX7_claim_9 := dk_seg dksX7_claim_8 22 rfl rfl
theorem dksX7_claim_10 : cX7_claim.data.toList.drop 230 = dktX7_claim_10 := dk_seg dksX7_claim_9 23 rfl rfl
theorem dksX7_claim_11 : cX7_claim.data.toList.drop 254 = dktX7_claim_11 := dk_seg dksX7_claim_10 24 rfl rfl
theorem dX7_claim_0 : decode cX7_claim 0 = .ok (.aload_n 0, 1) := dk_42 (dk_at dksX7_claim_0 0 rfl rfl)
theorem dX7_claim_1 : decode cX7_claim 1 = .ok (.aload_n 0, 1) := dk_42 (dk_at dksX7_claim_0 1 rfl rfl)
theorem dX7_claim_2 : decode cX7_claim 2 = .ok (.getfield 51, 3) := dk_180 0 51 (dk_at dksX7_claim_0 2 rfl rfl)
theorem dX7_claim_5 : decode cX7_claim 5 = .ok (.iconst 1, 1) := dk_4 (dk_at dksX7_claim_0 5 rfl rfl)
theorem dX7_claim_6 : decode cX7_claim 6 = .ok (.if_icmp .ne 15, 3) := dk_160 0 15 (dk_at dksX7_claim_0 6 rfl rfl)
theorem dX7_claim_9 : decode cX7_claim 9 = .ok (.aload_n 0, 1) := dk_42 (dk_at dksX7_claim_0 9 rfl rfl)
theorem dX7_claim_10 : decode cX7_claim 10 = .ok (.getfield 48, 3) := dk_180 0 48 (dk_at dksX7_claim_0 10 rfl rfl)
theorem dX7_claim_13 : decode cX7_claim 13 = .ok (.iconst 5, 1) := dk_8 (dk_at dksX7_claim_0 13 rfl rfl)
theorem dX7_claim_14 : decode cX7_claim 14 = .ok (.if_icmp .ge 7, 3) := dk_162 0 7 (dk_at dksX7_claim_0 14 rfl rfl)
theorem dX7_claim_17 : decode cX7_claim 17 = .ok (.iconst 1, 1) := dk_4 (dk_at dksX7_claim_0 17 rfl rfl)
theorem dX7_claim_18 : decode cX7_claim 18 = .ok (.goto 4, 3) := dk_167 0 4 (dk_at dksX7_claim_0 18 rfl rfl)
theorem dX7_claim_21 : decode cX7_claim 21 = .ok (.iconst 0, 1) := dk_3 (dk_at dksX7_claim_0 21 rfl rfl)
theorem dX7_claim_22 : decode cX7_claim 22 = .ok (.iconst 2, 1) := dk_5 (dk_at dksX7_claim_0 22 rfl rfl)
theorem dX7_claim_23 : decode cX7_claim 23 = .ok (.invokevirtual 70, 3) := dk_182 0 70 (dk_at dksX7_claim_1 0 rfl rfl)
theorem dX7_claim_26 : decode cX7_claim 26 = .ok (.aload_n 0, 1) := dk_42 (dk_at dksX7_claim_1 3 rfl rfl)
theorem dX7_claim_27 : decode cX7_claim 27 = .ok (.aload_n 0, 1) := dk_42 (dk_at dksX7_claim_1 4 rfl rfl)
theorem dX7_claim_28 : decode cX7_claim 28 = .ok (.getfield 3, 3) := dk_180 0 3 (dk_at dksX7_claim_1 5 rfl rfl)
theorem dX7_claim_31 : decode cX7_claim 31 = .ok (.getfield 78, 3) := dk_180 0 78 (dk_at dksX7_claim_1 8 rfl rfl)
theorem dX7_claim_34 : decode cX7_claim 34 = .ok (.bipush 20, 2) := dk_16 20 (dk_at dksX7_claim_1 11 rfl rfl)
theorem dX7_claim_36 : decode cX7_claim 36 = .ok (.if_icmp .ge 7, 3) := dk_162 0 7 (dk_at dksX7_claim_1 13 rfl rfl)
theorem dX7_claim_39 : decode cX7_claim 39 = .ok (.iconst 1, 1) := dk_4 (dk_at dksX7_claim_1 16 rfl rfl)
theorem dX7_claim_40 : decode cX7_claim 40 = .ok (.goto 4, 3) := dk_167 0 4 (dk_at dksX7_claim_1 17 rfl rfl)
theorem dX7_claim_43 : decode cX7_claim 43 = .ok (.iconst 0, 1) := dk_3 (dk_at dksX7_claim_1 20 rfl rfl)
theorem dX7_claim_44 : decode cX7_claim 44 = .ok (.iconst 5, 1) := dk_8 (dk_at dksX7_claim_1 21 rfl rfl)
theorem dX7_claim_45 : decode cX7_claim 45 = .ok (.invokevirtual 70, 3) := dk_182 0 70 (dk_at dksX7_claim_2 0 rfl rfl)
theorem dX7_claim_48 : decode cX7_claim 48 = .ok (.aload_n 0, 1) := dk_42 (dk_at dksX7_claim_2 3 rfl rfl)
theorem dX7_claim_49 : decode cX7_claim 49 = .ok (.getfield 48, 3) := dk_180 0 48 (dk_at dksX7_claim_2 4 rfl rfl)
theorem dX7_claim_52 : decode cX7_claim 52 = .ok (.istore_n 1, 1) := dk_60 (dk_at dksX7_claim_2 7 rfl rfl)
theorem dX7_claim_53 : decode cX7_claim 53 = .ok (.aload_n 0, 1) := dk_42 (dk_at dksX7_claim_2 8 rfl rfl)
theorem dX7_claim_54 : decode cX7_claim 54 = .ok (.invokevirtual 19, 3) := dk_182 0 19 (dk_at dksX7_claim_2 9 rfl rfl)
theorem dX7_claim_57 : decode cX7_claim 57 = .ok (.aload_n 0, 1) := dk_42 (dk_at dksX7_claim_2 12 rfl rfl)
theorem dX7_claim_58 : decode cX7_claim 58 = .ok (.aload_n 0, 1) := dk_42 (dk_at dksX7_claim_2 13 rfl rfl)
theorem dX7_claim_59 : decode cX7_claim 59 = .ok (.getfield 51, 3) := dk_180 0 51 (dk_at dksX7_claim_2 14 rfl rfl)
theorem dX7_claim_62 : decode cX7_claim 62 = .ok (.iconst 2, 1) := dk_5 (dk_at dksX7_claim_2 17 rfl rfl)
theorem dX7_claim_63 : decode cX7_claim 63 = .ok (.if_icmp .ne 7, 3) := dk_160 0 7 (dk_at dksX7_claim_2 18 rfl rfl)
theorem dX7_claim_66 : decode cX7_claim 66 = .ok (.iconst 1, 1) := dk_4 (dk_at dksX7_claim_2 21 rfl rfl)
theorem dX7_claim_67 : decode cX7_claim 67 = .ok (.goto 4, 3) := dk_167 0 4 (dk_at dksX7_claim_3 0 rfl rfl)
theorem dX7_claim_70 : decode cX7_claim 70 = .ok (.iconst 0, 1) := dk_3 (dk_at dksX7_claim_3 3 rfl rfl)
theorem dX7_claim_71 : decode cX7_claim 71 = .ok (.iconst 2, 1) := dk_5 (dk_at dksX7_claim_3 4 rfl rfl)
theorem dX7_claim_72 : decode cX7_claim 72 = .ok (.invokevirtual 70, 3) := dk_182 0 70 (dk_at dksX7_claim_3 5 rfl rfl)
theorem dX7_claim_75 : decode cX7_claim 75 = .ok (.iconst 0, 1) := dk_3 (dk_at dksX7_claim_3 8 rfl rfl)
theorem dX7_claim_76 : decode cX7_claim 76 = .ok (.istore_n 2, 1) := dk_61 (dk_at dksX7_claim_3 9 rfl rfl)
theorem dX7_claim_77 : decode cX7_claim 77 = .ok (.iload_n 2, 1) := dk_28 (dk_at dksX7_claim_3 10 rfl rfl)
theorem dX7_claim_78 : decode cX7_claim 78 = .ok (.aload_n 0, 1) := dk_42 (dk_at dksX7_claim_3 11 rfl rfl)
theorem dX7_claim_79 : decode cX7_claim 79 = .ok (.getfield 3, 3) := dk_180 0 3 (dk_at dksX7_claim_3 12 rfl rfl)
theorem dX7_claim_82 : decode cX7_claim 82 = .ok (.getfield 78, 3) := dk_180 0 78 (dk_at dksX7_claim_3 15 rfl rfl)
theorem dX7_claim_85 : decode cX7_claim 85 = .ok (.if_icmp .ge 71, 3) := dk_162 0 71 (dk_at dksX7_claim_3 18 rfl rfl)
theorem dX7_claim_88 : decode cX7_claim 88 = .ok (.aload_n 0, 1) := dk_42 (dk_at dksX7_claim_3 21 rfl rfl)
theorem dX7_claim_89 : decode cX7_claim 89 = .ok (.aload_n 0, 1) := dk_42 (dk_at dksX7_claim_3 22 rfl rfl)
theorem dX7_claim_90 : decode cX7_claim 90 = .ok (.getfield 3, 3) := dk_180 0 3 (dk_at dksX7_claim_4 0 rfl rfl)
theorem dX7_claim_93 : decode cX7_claim 93 = .ok (.getfield 81, 3) := dk_180 0 81 (dk_at dksX7_claim_4 3 rfl rfl)
theorem dX7_claim_96 : decode cX7_claim 96 = .ok (.iload_n 2, 1) := dk_28 (dk_at dksX7_claim_4 6 rfl rfl)
theorem dX7_claim_97 : decode cX7_claim 97 = .ok (.aaload, 1) := dk_50 (dk_at dksX7_claim_4 7 rfl rfl)
theorem dX7_claim_98 : decode cX7_claim 98 = .ok (.getfield 85, 3) := dk_180 0 85 (dk_at dksX7_claim_4 8 rfl rfl)
theorem dX7_claim_101 : decode cX7_claim 101 = .ok (.bipush (-4), 2) := dk_16 252 (dk_at dksX7_claim_4 11 rfl rfl)
theorem dX7_claim_103 : decode cX7_claim 103 = .ok (.if_icmp .ne 38, 3) := dk_160 0 38 (dk_at dksX7_claim_4 13 rfl rfl)
theorem dX7_claim_106 : decode cX7_claim 106 = .ok (.aload_n 0, 1) := dk_42 (dk_at dksX7_claim_4 16 rfl rfl)
theorem dX7_claim_107 : decode cX7_claim 107 = .ok (.getfield 3, 3) := dk_180 0 3 (dk_at dksX7_claim_4 17 rfl rfl)
theorem dX7_claim_110 : decode cX7_claim 110 = .ok (.getfield 81, 3) := dk_180 0 81 (dk_at dksX7_claim_4 20 rfl rfl)
theorem dX7_claim_113 : decode cX7_claim 113 = .ok (.iload_n 2, 1) := dk_28 (dk_at dksX7_claim_4 23 rfl rfl)
theorem dX7_claim_114 : decode cX7_claim 114 = .ok (.aaload, 1) := dk_50 (dk_at dksX7_claim_5 0 rfl rfl)
theorem dX7_claim_115 : decode cX7_claim 115 = .ok (.getfield 93, 3) := dk_180 0 93 (dk_at dksX7_claim_5 1 rfl rfl)
theorem dX7_claim_118 : decode cX7_claim 118 = .ok (.iload_n 1, 1) := dk_27 (dk_at dksX7_claim_5 4 rfl rfl)
theorem dX7_claim_119 : decode cX7_claim 119 = .ok (.if_icmp .ne 22, 3) := dk_160 0 22 (dk_at dksX7_claim_5 5 rfl rfl)
theorem dX7_claim_122 : decode cX7_claim 122 = .ok (.aload_n 0, 1) := dk_42 (dk_at dksX7_claim_5 8 rfl rfl)
theorem dX7_claim_123 : decode cX7_claim 123 = .ok (.getfield 3, 3) := dk_180 0 3 (dk_at dksX7_claim_5 9 rfl rfl)
theorem dX7_claim_126 : decode cX7_claim 126 = .ok (.getfield 81, 3) := dk_180 0 81 (dk_at dksX7_claim_5 12 rfl rfl)
theorem dX7_claim_129 : decode cX7_claim 129 = .ok (.iload_n 2, 1) := dk_28 (dk_at dksX7_claim_5 15 rfl rfl)
theorem dX7_claim_130 : decode cX7_claim 130 = .ok (.aaload, 1) := dk_50 (dk_at dksX7_claim_5 16 rfl rfl)
theorem dX7_claim_131 : decode cX7_claim 131 = .ok (.getfield 94, 3) := dk_180 0 94 (dk_at dksX7_claim_5 17 rfl rfl)
theorem dX7_claim_134 : decode cX7_claim 134 = .ok (.aload_n 0, 1) := dk_42 (dk_at dksX7_claim_5 20 rfl rfl)
theorem dX7_claim_135 : decode cX7_claim 135 = .ok (.getfield 48, 3) := dk_180 0 48 (dk_at dksX7_claim_5 21 rfl rfl)
theorem dX7_claim_138 : decode cX7_claim 138 = .ok (.if_icmp .eq 7, 3) := dk_159 0 7 (dk_at dksX7_claim_6 0 rfl rfl)
theorem dX7_claim_141 : decode cX7_claim 141 = .ok (.iconst 1, 1) := dk_4 (dk_at dksX7_claim_6 3 rfl rfl)
theorem dX7_claim_142 : decode cX7_claim 142 = .ok (.goto 4, 3) := dk_167 0 4 (dk_at dksX7_claim_6 4 rfl rfl)
theorem dX7_claim_145 : decode cX7_claim 145 = .ok (.iconst 0, 1) := dk_3 (dk_at dksX7_claim_6 7 rfl rfl)
theorem dX7_claim_146 : decode cX7_claim 146 = .ok (.iconst 4, 1) := dk_7 (dk_at dksX7_claim_6 8 rfl rfl)
theorem dX7_claim_147 : decode cX7_claim 147 = .ok (.invokevirtual 70, 3) := dk_182 0 70 (dk_at dksX7_claim_6 9 rfl rfl)
theorem dX7_claim_150 : decode cX7_claim 150 = .ok (.iinc 2 1, 3) := dk_132 2 1 (dk_at dksX7_claim_6 12 rfl rfl)
theorem dX7_claim_153 : decode cX7_claim 153 = .ok (.goto (-76), 3) := dk_167 255 180 (dk_at dksX7_claim_6 15 rfl rfl)
theorem dX7_claim_156 : decode cX7_claim 156 = .ok (.new 86, 3) := dk_187 0 86 (dk_at dksX7_claim_6 18 rfl rfl)
theorem dX7_claim_159 : decode cX7_claim 159 = .ok (.dup, 1) := dk_89 (dk_at dksX7_claim_6 21 rfl rfl)
theorem dX7_claim_160 : decode cX7_claim 160 = .ok (.iload_n 1, 1) := dk_27 (dk_at dksX7_claim_6 22 rfl rfl)
theorem dX7_claim_161 : decode cX7_claim 161 = .ok (.aload_n 0, 1) := dk_42 (dk_at dksX7_claim_6 23 rfl rfl)
theorem dX7_claim_162 : decode cX7_claim 162 = .ok (.getfield 48, 3) := dk_180 0 48 (dk_at dksX7_claim_7 0 rfl rfl)
theorem dX7_claim_165 : decode cX7_claim 165 = .ok (.aload_n 0, 1) := dk_42 (dk_at dksX7_claim_7 3 rfl rfl)
theorem dX7_claim_166 : decode cX7_claim 166 = .ok (.getfield 3, 3) := dk_180 0 3 (dk_at dksX7_claim_7 4 rfl rfl)
theorem dX7_claim_169 : decode cX7_claim 169 = .ok (.getfield 97, 3) := dk_180 0 97 (dk_at dksX7_claim_7 7 rfl rfl)
theorem dX7_claim_172 : decode cX7_claim 172 = .ok (.invokespecial 100, 3) := dk_183 0 100 (dk_at dksX7_claim_7 10 rfl rfl)
theorem dX7_claim_175 : decode cX7_claim 175 = .ok (.astore_n 2, 1) := dk_77 (dk_at dksX7_claim_7 13 rfl rfl)
theorem dX7_claim_176 : decode cX7_claim 176 = .ok (.aload_n 0, 1) := dk_42 (dk_at dksX7_claim_7 14 rfl rfl)
theorem dX7_claim_177 : decode cX7_claim 177 = .ok (.invokevirtual 19, 3) := dk_182 0 19 (dk_at dksX7_claim_7 15 rfl rfl)
theorem dX7_claim_180 : decode cX7_claim 180 = .ok (.aload_n 0, 1) := dk_42 (dk_at dksX7_claim_7 18 rfl rfl)
theorem dX7_claim_181 : decode cX7_claim 181 = .ok (.getfield 51, 3) := dk_180 0 51 (dk_at dksX7_claim_7 19 rfl rfl)
theorem dX7_claim_184 : decode cX7_claim 184 = .ok (.iconst 1, 1) := dk_4 (dk_at dksX7_claim_7 22 rfl rfl)
theorem dX7_claim_185 : decode cX7_claim 185 = .ok (.if_icmp .ne 33, 3) := dk_160 0 33 (dk_at dksX7_claim_8 0 rfl rfl)
theorem dX7_claim_188 : decode cX7_claim 188 = .ok (.aload_n 0, 1) := dk_42 (dk_at dksX7_claim_8 3 rfl rfl)
theorem dX7_claim_189 : decode cX7_claim 189 = .ok (.getfield 48, 3) := dk_180 0 48 (dk_at dksX7_claim_8 4 rfl rfl)
theorem dX7_claim_192 : decode cX7_claim 192 = .ok (.iconst 5, 1) := dk_8 (dk_at dksX7_claim_8 7 rfl rfl)
theorem dX7_claim_193 : decode cX7_claim 193 = .ok (.if_icmp .ne 25, 3) := dk_160 0 25 (dk_at dksX7_claim_8 8 rfl rfl)
theorem dX7_claim_196 : decode cX7_claim 196 = .ok (.aload_n 0, 1) := dk_42 (dk_at dksX7_claim_8 11 rfl rfl)
theorem dX7_claim_197 : decode cX7_claim 197 = .ok (.aload_n 2, 1) := dk_44 (dk_at dksX7_claim_8 12 rfl rfl)
theorem dX7_claim_198 : decode cX7_claim 198 = .ok (.invokevirtual 103, 3) := dk_182 0 103 (dk_at dksX7_claim_8 13 rfl rfl)
theorem dX7_claim_201 : decode cX7_claim 201 = .ok (.aload_n 0, 1) := dk_42 (dk_at dksX7_claim_8 16 rfl rfl)
theorem dX7_claim_202 : decode cX7_claim 202 = .ok (.bipush 44, 2) := dk_16 44 (dk_at dksX7_claim_8 17 rfl rfl)
theorem dX7_claim_204 : decode cX7_claim 204 = .ok (.invokevirtual 107, 3) := dk_182 0 107 (dk_at dksX7_claim_8 19 rfl rfl)
theorem dX7_claim_207 : decode cX7_claim 207 = .ok (.ifCond .eq 11, 3) := dk_153 0 11 (dk_at dksX7_claim_9 0 rfl rfl)
theorem dX7_claim_210 : decode cX7_claim 210 = .ok (.aload_n 0, 1) := dk_42 (dk_at dksX7_claim_9 3 rfl rfl)
theorem dX7_claim_211 : decode cX7_claim 211 = .ok (.aload_n 2, 1) := dk_44 (dk_at dksX7_claim_9 4 rfl rfl)
theorem dX7_claim_212 : decode cX7_claim 212 = .ok (.invokevirtual 103, 3) := dk_182 0 103 (dk_at dksX7_claim_9 5 rfl rfl)
theorem dX7_claim_215 : decode cX7_claim 215 = .ok (.goto (-14), 3) := dk_167 255 242 (dk_at dksX7_claim_9 8 rfl rfl)
theorem dX7_claim_218 : decode cX7_claim 218 = .ok (.aload_n 0, 1) := dk_42 (dk_at dksX7_claim_9 11 rfl rfl)
theorem dX7_claim_219 : decode cX7_claim 219 = .ok (.aload_n 0, 1) := dk_42 (dk_at dksX7_claim_9 12 rfl rfl)
theorem dX7_claim_220 : decode cX7_claim 220 = .ok (.bipush 59, 2) := dk_16 59 (dk_at dksX7_claim_9 13 rfl rfl)
theorem dX7_claim_222 : decode cX7_claim 222 = .ok (.invokevirtual 107, 3) := dk_182 0 107 (dk_at dksX7_claim_9 15 rfl rfl)
theorem dX7_claim_225 : decode cX7_claim 225 = .ok (.iconst 2, 1) := dk_5 (dk_at dksX7_claim_9 18 rfl rfl)
theorem dX7_claim_226 : decode cX7_claim 226 = .ok (.invokevirtual 70, 3) := dk_182 0 70 (dk_at dksX7_claim_9 19 rfl rfl)
theorem dX7_claim_229 : decode cX7_claim 229 = .ok (.aload_n 0, 1) := dk_42 (dk_at dksX7_claim_9 22 rfl rfl)
theorem dX7_claim_230 : decode cX7_claim 230 = .ok (.getfield 3, 3) := dk_180 0 3 (dk_at dksX7_claim_10 0 rfl rfl)
theorem dX7_claim_233 : decode cX7_claim 233 = .ok (.getfield 81, 3) := dk_180 0 81 (dk_at dksX7_claim_10 3 rfl rfl)
theorem dX7_claim_236 : decode cX7_claim 236 = .ok (.aload_n 0, 1) := dk_42 (dk_at dksX7_claim_10 6 rfl rfl)
theorem dX7_claim_237 : decode cX7_claim 237 = .ok (.getfield 3, 3) := dk_180 0 3 (dk_at dksX7_claim_10 7 rfl rfl)
theorem dX7_claim_240 : decode cX7_claim 240 = .ok (.getfield 78, 3) := dk_180 0 78 (dk_at dksX7_claim_10 10 rfl rfl)
theorem dX7_claim_243 : decode cX7_claim 243 = .ok (.aload_n 2, 1) := dk_44 (dk_at dksX7_claim_10 13 rfl rfl)
theorem dX7_claim_244 : decode cX7_claim 244 = .ok (.aastore, 1) := dk_83 (dk_at dksX7_claim_10 14 rfl rfl)
theorem dX7_claim_245 : decode cX7_claim 245 = .ok (.aload_n 0, 1) := dk_42 (dk_at dksX7_claim_10 15 rfl rfl)
theorem dX7_claim_246 : decode cX7_claim 246 = .ok (.getfield 3, 3) := dk_180 0 3 (dk_at dksX7_claim_10 16 rfl rfl)
theorem dX7_claim_249 : decode cX7_claim 249 = .ok (.dup, 1) := dk_89 (dk_at dksX7_claim_10 19 rfl rfl)
theorem dX7_claim_250 : decode cX7_claim 250 = .ok (.getfield 78, 3) := dk_180 0 78 (dk_at dksX7_claim_10 20 rfl rfl)
theorem dX7_claim_253 : decode cX7_claim 253 = .ok (.iconst 1, 1) := dk_4 (dk_at dksX7_claim_10 23 rfl rfl)
theorem dX7_claim_254 : decode cX7_claim 254 = .ok (.iadd, 1) := dk_96 (dk_at dksX7_claim_11 0 rfl rfl)
theorem dX7_claim_255 : decode cX7_claim 255 = .ok (.putfield 78, 3) := dk_181 0 78 (dk_at dksX7_claim_11 1 rfl rfl)
theorem dX7_claim_258 : decode cX7_claim 258 = .ok (.aload_n 0, 1) := dk_42 (dk_at dksX7_claim_11 4 rfl rfl)
theorem dX7_claim_259 : decode cX7_claim 259 = .ok (.invokevirtual 19, 3) := dk_182 0 19 (dk_at dksX7_claim_11 5 rfl rfl)
theorem dX7_claim_262 : decode cX7_claim 262 = .ok (.return_, 1) := dk_177 (dk_at dksX7_claim_11 8 rfl rfl)
abbrev cX7_hangs : ByteArray := prog_5_method_7_code
def yX7_hangs : MethodName := ⟨RX7, "hangs", "(LUnreadScript$Claim;)V"⟩
def dkwX7_hangs_4 : List UInt8 := [42, 180, 0, 48, 120, 128, 181, 0, 90, 42, 182, 0, 19, 177]
abbrev dktX7_hangs_4 : List UInt8 := dkwX7_hangs_4 ++ []
def dkwX7_hangs_3 : List UInt8 := [180, 0, 48, 122, 4, 126, 154, 0, 7, 4, 167, 0, 4, 3, 6, 182, 0, 70, 43, 89, 180, 0, 90, 4]
abbrev dktX7_hangs_3 : List UInt8 := dkwX7_hangs_3 ++ dktX7_hangs_4
def dkwX7_hangs_2 : List UInt8 := [180, 0, 3, 180, 0, 81, 42, 180, 0, 48, 50, 180, 0, 85, 16, 252, 160, 0, 21, 43, 180, 0, 90, 42]
abbrev dktX7_hangs_2 : List UInt8 := dkwX7_hangs_2 ++ dktX7_hangs_3
def dkwX7_hangs_1 : List UInt8 := [180, 0, 48, 133, 9, 42, 180, 0, 3, 180, 0, 78, 4, 100, 133, 184, 0, 58, 153, 0, 41, 42]
abbrev dktX7_hangs_1 : List UInt8 := dkwX7_hangs_1 ++ dktX7_hangs_2
def dkwX7_hangs_0 : List UInt8 := [42, 182, 0, 19, 42, 42, 180, 0, 51, 5, 160, 0, 7, 4, 167, 0, 4, 3, 5, 182, 0, 70, 42, 42]
abbrev dktX7_hangs_0 : List UInt8 := dkwX7_hangs_0 ++ dktX7_hangs_1
theorem dksX7_hangs_0 : cX7_hangs.data.toList.drop 0 = dktX7_hangs_0 := by decide +kernel
theorem dksX7_hangs_1 : cX7_hangs.data.toList.drop 24 = dktX7_hangs_1 := dk_seg dksX7_hangs_0 24 rfl rfl
theorem dksX7_hangs_2 : cX7_hangs.data.toList.drop 46 = dktX7_hangs_2 := dk_seg dksX7_hangs_1 22 rfl rfl
theorem dksX7_hangs_3 : cX7_hangs.data.toList.drop 70 = dktX7_hangs_3 := dk_seg dksX7_hangs_2 24 rfl rfl
theorem dksX7_hangs_4 : cX7_hangs.data.toList.drop 94 = dktX7_hangs_4 := dk_seg dksX7_hangs_3 24 rfl rfl
theorem dX7_hangs_0 : decode cX7_hangs 0 = .ok (.aload_n 0, 1) := dk_42 (dk_at dksX7_hangs_0 0 rfl rfl)
theorem dX7_hangs_1 : decode cX7_hangs 1 = .ok (.invokevirtual 19, 3) := dk_182 0 19 (dk_at dksX7_hangs_0 1 rfl rfl)
theorem dX7_hangs_4 : decode cX7_hangs 4 = .ok (.aload_n 0, 1) := dk_42 (dk_at dksX7_hangs_0 4 rfl rfl)
theorem dX7_hangs_5 : decode cX7_hangs 5 = .ok (.aload_n 0, 1) := dk_42 (dk_at dksX7_hangs_0 5 rfl rfl)
theorem dX7_hangs_6 : decode cX7_hangs 6 = .ok (.getfield 51, 3) := dk_180 0 51 (dk_at dksX7_hangs_0 6 rfl rfl)
theorem dX7_hangs_9 : decode cX7_hangs 9 = .ok (.iconst 2, 1) := dk_5 (dk_at dksX7_hangs_0 9 rfl rfl)
theorem dX7_hangs_10 : decode cX7_hangs 10 = .ok (.if_icmp .ne 7, 3) := dk_160 0 7 (dk_at dksX7_hangs_0 10 rfl rfl)
theorem dX7_hangs_13 : decode cX7_hangs 13 = .ok (.iconst 1, 1) := dk_4 (dk_at dksX7_hangs_0 13 rfl rfl)
theorem dX7_hangs_14 : decode cX7_hangs 14 = .ok (.goto 4, 3) := dk_167 0 4 (dk_at dksX7_hangs_0 14 rfl rfl)
theorem dX7_hangs_17 : decode cX7_hangs 17 = .ok (.iconst 0, 1) := dk_3 (dk_at dksX7_hangs_0 17 rfl rfl)
theorem dX7_hangs_18 : decode cX7_hangs 18 = .ok (.iconst 2, 1) := dk_5 (dk_at dksX7_hangs_0 18 rfl rfl)
theorem dX7_hangs_19 : decode cX7_hangs 19 = .ok (.invokevirtual 70, 3) := dk_182 0 70 (dk_at dksX7_hangs_0 19 rfl rfl)
theorem dX7_hangs_22 : decode cX7_hangs 22 = .ok (.aload_n 0, 1) := dk_42 (dk_at dksX7_hangs_0 22 rfl rfl)
theorem dX7_hangs_23 : decode cX7_hangs 23 = .ok (.aload_n 0, 1) := dk_42 (dk_at dksX7_hangs_0 23 rfl rfl)
theorem dX7_hangs_24 : decode cX7_hangs 24 = .ok (.getfield 48, 3) := dk_180 0 48 (dk_at dksX7_hangs_1 0 rfl rfl)
theorem dX7_hangs_27 : decode cX7_hangs 27 = .ok (.i2l, 1) := dk_133 (dk_at dksX7_hangs_1 3 rfl rfl)
theorem dX7_hangs_28 : decode cX7_hangs 28 = .ok (.lconst 0, 1) := dk_9 (dk_at dksX7_hangs_1 4 rfl rfl)
theorem dX7_hangs_29 : decode cX7_hangs 29 = .ok (.aload_n 0, 1) := dk_42 (dk_at dksX7_hangs_1 5 rfl rfl)
theorem dX7_hangs_30 : decode cX7_hangs 30 = .ok (.getfield 3, 3) := dk_180 0 3 (dk_at dksX7_hangs_1 6 rfl rfl)
theorem dX7_hangs_33 : decode cX7_hangs 33 = .ok (.getfield 78, 3) := dk_180 0 78 (dk_at dksX7_hangs_1 9 rfl rfl)
theorem dX7_hangs_36 : decode cX7_hangs 36 = .ok (.iconst 1, 1) := dk_4 (dk_at dksX7_hangs_1 12 rfl rfl)
theorem dX7_hangs_37 : decode cX7_hangs 37 = .ok (.isub, 1) := dk_100 (dk_at dksX7_hangs_1 13 rfl rfl)
theorem dX7_hangs_38 : decode cX7_hangs 38 = .ok (.i2l, 1) := dk_133 (dk_at dksX7_hangs_1 14 rfl rfl)
theorem dX7_hangs_39 : decode cX7_hangs 39 = .ok (.invokestatic 58, 3) := dk_184 0 58 (dk_at dksX7_hangs_1 15 rfl rfl)
theorem dX7_hangs_42 : decode cX7_hangs 42 = .ok (.ifCond .eq 41, 3) := dk_153 0 41 (dk_at dksX7_hangs_1 18 rfl rfl)
theorem dX7_hangs_45 : decode cX7_hangs 45 = .ok (.aload_n 0, 1) := dk_42 (dk_at dksX7_hangs_1 21 rfl rfl)
theorem dX7_hangs_46 : decode cX7_hangs 46 = .ok (.getfield 3, 3) := dk_180 0 3 (dk_at dksX7_hangs_2 0 rfl rfl)
theorem dX7_hangs_49 : decode cX7_hangs 49 = .ok (.getfield 81, 3) := dk_180 0 81 (dk_at dksX7_hangs_2 3 rfl rfl)
theorem dX7_hangs_52 : decode cX7_hangs 52 = .ok (.aload_n 0, 1) := dk_42 (dk_at dksX7_hangs_2 6 rfl rfl)
theorem dX7_hangs_53 : decode cX7_hangs 53 = .ok (.getfield 48, 3) := dk_180 0 48 (dk_at dksX7_hangs_2 7 rfl rfl)
theorem dX7_hangs_56 : decode cX7_hangs 56 = .ok (.aaload, 1) := dk_50 (dk_at dksX7_hangs_2 10 rfl rfl)
theorem dX7_hangs_57 : decode cX7_hangs 57 = .ok (.getfield 85, 3) := dk_180 0 85 (dk_at dksX7_hangs_2 11 rfl rfl)
theorem dX7_hangs_60 : decode cX7_hangs 60 = .ok (.bipush (-4), 2) := dk_16 252 (dk_at dksX7_hangs_2 14 rfl rfl)
theorem dX7_hangs_62 : decode cX7_hangs 62 = .ok (.if_icmp .ne 21, 3) := dk_160 0 21 (dk_at dksX7_hangs_2 16 rfl rfl)
theorem dX7_hangs_65 : decode cX7_hangs 65 = .ok (.aload_n 1, 1) := dk_43 (dk_at dksX7_hangs_2 19 rfl rfl)
theorem dX7_hangs_66 : decode cX7_hangs 66 = .ok (.getfield 90, 3) := dk_180 0 90 (dk_at dksX7_hangs_2 20 rfl rfl)
theorem dX7_hangs_69 : decode cX7_hangs 69 = .ok (.aload_n 0, 1) := dk_42 (dk_at dksX7_hangs_2 23 rfl rfl)
theorem dX7_hangs_70 : decode cX7_hangs 70 = .ok (.getfield 48, 3) := dk_180 0 48 (dk_at dksX7_hangs_3 0 rfl rfl)
theorem dX7_hangs_73 : decode cX7_hangs 73 = .ok (.ishr, 1) := dk_122 (dk_at dksX7_hangs_3 3 rfl rfl)
theorem dX7_hangs_74 : decode cX7_hangs 74 = .ok (.iconst 1, 1) := dk_4 (dk_at dksX7_hangs_3 4 rfl rfl)
theorem dX7_hangs_75 : decode cX7_hangs 75 = .ok (.iand, 1) := dk_126 (dk_at dksX7_hangs_3 5 rfl rfl)
theorem dX7_hangs_76 : decode cX7_hangs 76 = .ok (.ifCond .ne 7, 3) := dk_154 0 7 (dk_at dksX7_hangs_3 6 rfl rfl)
theorem dX7_hangs_79 : decode cX7_hangs 79 = .ok (.iconst 1, 1) := dk_4 (dk_at dksX7_hangs_3 9 rfl rfl)
theorem dX7_hangs_80 : decode cX7_hangs 80 = .ok (.goto 4, 3) := dk_167 0 4 (dk_at dksX7_hangs_3 10 rfl rfl)
theorem dX7_hangs_83 : decode cX7_hangs 83 = .ok (.iconst 0, 1) := dk_3 (dk_at dksX7_hangs_3 13 rfl rfl)
theorem dX7_hangs_84 : decode cX7_hangs 84 = .ok (.iconst 3, 1) := dk_6 (dk_at dksX7_hangs_3 14 rfl rfl)
theorem dX7_hangs_85 : decode cX7_hangs 85 = .ok (.invokevirtual 70, 3) := dk_182 0 70 (dk_at dksX7_hangs_3 15 rfl rfl)
theorem dX7_hangs_88 : decode cX7_hangs 88 = .ok (.aload_n 1, 1) := dk_43 (dk_at dksX7_hangs_3 18 rfl rfl)
theorem dX7_hangs_89 : decode cX7_hangs 89 = .ok (.dup, 1) := dk_89 (dk_at dksX7_hangs_3 19 rfl rfl)
theorem dX7_hangs_90 : decode cX7_hangs 90 = .ok (.getfield 90, 3) := dk_180 0 90 (dk_at dksX7_hangs_3 20 rfl rfl)
theorem dX7_hangs_93 : decode cX7_hangs 93 = .ok (.iconst 1, 1) := dk_4 (dk_at dksX7_hangs_3 23 rfl rfl)
theorem dX7_hangs_94 : decode cX7_hangs 94 = .ok (.aload_n 0, 1) := dk_42 (dk_at dksX7_hangs_4 0 rfl rfl)
theorem dX7_hangs_95 : decode cX7_hangs 95 = .ok (.getfield 48, 3) := dk_180 0 48 (dk_at dksX7_hangs_4 1 rfl rfl)
theorem dX7_hangs_98 : decode cX7_hangs 98 = .ok (.ishl, 1) := dk_120 (dk_at dksX7_hangs_4 4 rfl rfl)
theorem dX7_hangs_99 : decode cX7_hangs 99 = .ok (.ior, 1) := dk_128 (dk_at dksX7_hangs_4 5 rfl rfl)
theorem dX7_hangs_100 : decode cX7_hangs 100 = .ok (.putfield 90, 3) := dk_181 0 90 (dk_at dksX7_hangs_4 6 rfl rfl)
theorem dX7_hangs_103 : decode cX7_hangs 103 = .ok (.aload_n 0, 1) := dk_42 (dk_at dksX7_hangs_4 9 rfl rfl)
theorem dX7_hangs_104 : decode cX7_hangs 104 = .ok (.invokevirtual 19, 3) := dk_182 0 19 (dk_at dksX7_hangs_4 10 rfl rfl)
theorem dX7_hangs_107 : decode cX7_hangs 107 = .ok (.return_, 1) := dk_177 (dk_at dksX7_hangs_4 13 rfl rfl)
abbrev cX7_isMark : ByteArray := prog_5_method_6_code
def yX7_isMark : MethodName := ⟨RX7, "isMark", "(I)Z"⟩
def dkwX7_isMark_0 : List UInt8 := [42, 180, 0, 51, 6, 160, 0, 15, 42, 180, 0, 48, 27, 160, 0, 7, 4, 167, 0, 4, 3, 172]
abbrev dktX7_isMark_0 : List UInt8 := dkwX7_isMark_0 ++ []
theorem dksX7_isMark_0 : cX7_isMark.data.toList.drop 0 = dktX7_isMark_0 := by decide +kernel
theorem dX7_isMark_0 : decode cX7_isMark 0 = .ok (.aload_n 0, 1) := dk_42 (dk_at dksX7_isMark_0 0 rfl rfl)
theorem dX7_isMark_1 : decode cX7_isMark 1 = .ok (.getfield 51, 3) := dk_180 0 51 (dk_at dksX7_isMark_0 1 rfl rfl)
theorem dX7_isMark_4 : decode cX7_isMark 4 = .ok (.iconst 3, 1) := dk_6 (dk_at dksX7_isMark_0 4 rfl rfl)
theorem dX7_isMark_5 : decode cX7_isMark 5 = .ok (.if_icmp .ne 15, 3) := dk_160 0 15 (dk_at dksX7_isMark_0 5 rfl rfl)
theorem dX7_isMark_8 : decode cX7_isMark 8 = .ok (.aload_n 0, 1) := dk_42 (dk_at dksX7_isMark_0 8 rfl rfl)
theorem dX7_isMark_9 : decode cX7_isMark 9 = .ok (.getfield 48, 3) := dk_180 0 48 (dk_at dksX7_isMark_0 9 rfl rfl)
theorem dX7_isMark_12 : decode cX7_isMark 12 = .ok (.iload_n 1, 1) := dk_27 (dk_at dksX7_isMark_0 12 rfl rfl)
theorem dX7_isMark_13 : decode cX7_isMark 13 = .ok (.if_icmp .ne 7, 3) := dk_160 0 7 (dk_at dksX7_isMark_0 13 rfl rfl)
theorem dX7_isMark_16 : decode cX7_isMark 16 = .ok (.iconst 1, 1) := dk_4 (dk_at dksX7_isMark_0 16 rfl rfl)
theorem dX7_isMark_17 : decode cX7_isMark 17 = .ok (.goto 4, 3) := dk_167 0 4 (dk_at dksX7_isMark_0 17 rfl rfl)
theorem dX7_isMark_20 : decode cX7_isMark 20 = .ok (.iconst 0, 1) := dk_3 (dk_at dksX7_isMark_0 20 rfl rfl)
theorem dX7_isMark_21 : decode cX7_isMark 21 = .ok (.ireturn, 1) := dk_172 (dk_at dksX7_isMark_0 21 rfl rfl)
theorem q105 : (Jvm.Cond.initialized "UnreadScript$Reader") ∈ lw_all := lw_g (lw_at lw_m1 20 rfl) rfl
theorem q437 : (Jvm.Cond.instantiable "UnreadScript$Reader" (6 : Nat)) ∈ lw_all := lw_g (lw_at lw_m2 112 rfl) rfl
theorem q439 : (Jvm.Cond.instanceMethod ({ cls := "UnreadScript$Reader", name := "<init>", desc := "(LUnreadScript;[B)V" } : Jvm.MethodName)) ∈ lw_all := lw_g (lw_at lw_m2 114 rfl) rfl
theorem q440 : (Jvm.Cond.code ({ cls := "UnreadScript$Reader", name := "<init>", desc := "(LUnreadScript;[B)V" } : Jvm.MethodName) prog_5_method_1_code (3 : Nat) (Option.none : Option Jvm.ClassFile.FieldType)) ∈ lw_all := lw_g (lw_at lw_m2 115 rfl) rfl
theorem q441 : (Jvm.Cond.methodLink "UnreadScript$Reader" (9 : Nat) ({ cls := "java/lang/Object", name := "<init>", desc := "()V" } : Jvm.MethodName)) ∈ lw_all := lw_g (lw_at lw_m2 116 rfl) rfl
theorem q442 : (Jvm.Cond.methodLink "UnreadScript$Reader" (19 : Nat) ({ cls := "UnreadScript$Reader", name := "next", desc := "()V" } : Jvm.MethodName)) ∈ lw_all := lw_g (lw_at lw_m2 117 rfl) rfl
theorem q443 : (Jvm.Cond.privateMethod ({ cls := "UnreadScript$Reader", name := "next", desc := "()V" } : Jvm.MethodName)) ∈ lw_tbl := lw_at lw_m2 118 rfl
theorem q444 : (Jvm.Cond.instanceMethod ({ cls := "UnreadScript$Reader", name := "next", desc := "()V" } : Jvm.MethodName)) ∈ lw_all := lw_g (lw_at lw_m2 119 rfl) rfl
theorem q445 : (Jvm.Cond.code ({ cls := "UnreadScript$Reader", name := "next", desc := "()V" } : Jvm.MethodName) prog_5_method_5_code (2 : Nat) (Option.none : Option Jvm.ClassFile.FieldType)) ∈ lw_all := lw_g (lw_at lw_m2 120 rfl) rfl
theorem q446 : (Jvm.Cond.methodLink "UnreadScript$Reader" (44 : Nat) ({ cls := "UnreadScript$Reader", name := "at", desc := "(I)I" } : Jvm.MethodName)) ∈ lw_all := lw_g (lw_at lw_m2 121 rfl) rfl
theorem q447 : (Jvm.Cond.privateMethod ({ cls := "UnreadScript$Reader", name := "at", desc := "(I)I" } : Jvm.MethodName)) ∈ lw_tbl := lw_at lw_m2 122 rfl
theorem q448 : (Jvm.Cond.instanceMethod ({ cls := "UnreadScript$Reader", name := "at", desc := "(I)I" } : Jvm.MethodName)) ∈ lw_all := lw_g (lw_at lw_m2 123 rfl) rfl
theorem q449 : (Jvm.Cond.code ({ cls := "UnreadScript$Reader", name := "at", desc := "(I)I" } : Jvm.MethodName) prog_5_method_2_code (2 : Nat) (Option.some Jvm.ClassFile.FieldType.int)) ∈ lw_all := lw_g (lw_at lw_m2 124 rfl) rfl
theorem q450 : (Jvm.Cond.constantLong "UnreadScript$Reader" (54 : Nat) (97 : Int64)) ∈ lw_all := lw_g (lw_at lw_m2 125 rfl) rfl
theorem q451 : (Jvm.Cond.constantLong "UnreadScript$Reader" (56 : Nat) (122 : Int64)) ∈ lw_all := lw_g (lw_at lw_m2 126 rfl) rfl
theorem q452 : (Jvm.Cond.methodLinkNest "UnreadScript$Reader" (58 : Nat) ({ cls := "UnreadScript", name := "isIn", desc := "(JJJ)Z" } : Jvm.MethodName) "UnreadScript") ∈ lw_tbl := lw_at lw_m2 127 rfl
theorem q453 : (Jvm.Cond.fieldLinkNest "UnreadScript$Reader" (62 : Nat) "UnreadScript" "KINDS" "[Ljava/lang/String;" "UnreadScript") ∈ lw_tbl := lw_at lw_m2 128 rfl
theorem q455 : (Jvm.Cond.methodLink "UnreadScript$Reader" (66 : Nat) ({ cls := "UnreadScript$Reader", name := "isSpelt", desc := "(Ljava/lang/String;)Z" } : Jvm.MethodName)) ∈ lw_all := lw_g (lw_at lw_m2 130 rfl) rfl
theorem q456 : (Jvm.Cond.privateMethod ({ cls := "UnreadScript$Reader", name := "isSpelt", desc := "(Ljava/lang/String;)Z" } : Jvm.MethodName)) ∈ lw_tbl := lw_at lw_m2 131 rfl
theorem q457 : (Jvm.Cond.instanceMethod ({ cls := "UnreadScript$Reader", name := "isSpelt", desc := "(Ljava/lang/String;)Z" } : Jvm.MethodName)) ∈ lw_all := lw_g (lw_at lw_m2 132 rfl) rfl
theorem q458 : (Jvm.Cond.code ({ cls := "UnreadScript$Reader", name := "isSpelt", desc := "(Ljava/lang/String;)Z" } : Jvm.MethodName) prog_5_method_4_code (4 : Nat) (Option.some Jvm.ClassFile.FieldType.boolean)) ∈ lw_all := lw_g (lw_at lw_m2 133 rfl) rfl
theorem q459 : (Jvm.Cond.methodLink "UnreadScript$Reader" (31 : Nat) ({ cls := "java/lang/String", name := "length", desc := "()I" } : Jvm.MethodName)) ∈ lw_all := lw_g (lw_at lw_m2 134 rfl) rfl
theorem q469 : (Jvm.Cond.methodLink "UnreadScript$Reader" (40 : Nat) ({ cls := "java/lang/String", name := "charAt", desc := "(I)C" } : Jvm.MethodName)) ∈ lw_all := lw_g (lw_at lw_m2 144 rfl) rfl
theorem q507 : (Jvm.Cond.methodLink "UnreadScript$Reader" (70 : Nat) ({ cls := "UnreadScript$Reader", name := "must", desc := "(ZI)V" } : Jvm.MethodName)) ∈ lw_all := lw_g (lw_at lw_m2 182 rfl) rfl
theorem q508 : (Jvm.Cond.privateMethod ({ cls := "UnreadScript$Reader", name := "must", desc := "(ZI)V" } : Jvm.MethodName)) ∈ lw_tbl := lw_at lw_m2 183 rfl
theorem q509 : (Jvm.Cond.instanceMethod ({ cls := "UnreadScript$Reader", name := "must", desc := "(ZI)V" } : Jvm.MethodName)) ∈ lw_all := lw_g (lw_at lw_m2 184 rfl) rfl
theorem q510 : (Jvm.Cond.code ({ cls := "UnreadScript$Reader", name := "must", desc := "(ZI)V" } : Jvm.MethodName) prog_5_method_3_code (3 : Nat) (Option.none : Option Jvm.ClassFile.FieldType)) ∈ lw_all := lw_g (lw_at lw_m2 185 rfl) rfl
theorem q511 : (Jvm.Cond.classLink "UnreadScript$Reader" (22 : Nat) "UnreadScript$Fault") ∈ lw_all := lw_g (lw_at lw_m2 186 rfl) rfl
theorem q567 : (Jvm.Cond.methodLink "UnreadScript$Reader" (28 : Nat) ({ cls := "UnreadScript$Fault", name := "<init>", desc := "(II)V" } : Jvm.MethodName)) ∈ lw_all := lw_g (lw_at lw_m3 2 rfl) rfl
theorem q601 : (Jvm.Cond.constantLong "UnreadScript$Reader" (74 : Nat) (48 : Int64)) ∈ lw_all := lw_g (lw_at lw_m3 36 rfl) rfl
theorem q602 : (Jvm.Cond.constantLong "UnreadScript$Reader" (76 : Nat) (57 : Int64)) ∈ lw_all := lw_g (lw_at lw_m3 37 rfl) rfl
theorem q603 : (Jvm.Cond.fieldLink "UnreadScript$Reader" (15 : Nat) "UnreadScript$Reader" "t" "[B") ∈ lw_all := lw_g (lw_at lw_m3 38 rfl) rfl
theorem q604 : (Jvm.Cond.fieldLink "UnreadScript$Reader" (24 : Nat) "UnreadScript$Reader" "from" "I") ∈ lw_all := lw_g (lw_at lw_m3 39 rfl) rfl
theorem q605 : (Jvm.Cond.fieldLink "UnreadScript$Reader" (37 : Nat) "UnreadScript$Reader" "to" "I") ∈ lw_all := lw_g (lw_at lw_m3 40 rfl) rfl
theorem q606 : (Jvm.Cond.fieldLink "UnreadScript$Reader" (51 : Nat) "UnreadScript$Reader" "kind" "I") ∈ lw_all := lw_g (lw_at lw_m3 41 rfl) rfl
theorem q607 : (Jvm.Cond.fieldLink "UnreadScript$Reader" (48 : Nat) "UnreadScript$Reader" "value" "I") ∈ lw_all := lw_g (lw_at lw_m3 42 rfl) rfl
theorem q608 : (Jvm.Cond.fieldLink "UnreadScript$Reader" (3 : Nat) "UnreadScript$Reader" "this$0" "LUnreadScript;") ∈ lw_all := lw_g (lw_at lw_m3 43 rfl) rfl
theorem q609 : (Jvm.Cond.laysFinal "UnreadScript$Reader" "UnreadScript$Reader" "t" "[B") ∈ lw_all := lw_g (lw_at lw_m3 44 rfl) rfl
theorem q610 : (Jvm.Cond.soleField "UnreadScript$Reader" "t") ∈ lw_all := lw_g (lw_at lw_m3 45 rfl) rfl
theorem q611 : (Jvm.Cond.lays "UnreadScript$Reader" "UnreadScript$Reader" "from" "I") ∈ lw_all := lw_g (lw_at lw_m3 46 rfl) rfl
theorem q612 : (Jvm.Cond.soleField "UnreadScript$Reader" "from") ∈ lw_all := lw_g (lw_at lw_m3 47 rfl) rfl
theorem q613 : (Jvm.Cond.lays "UnreadScript$Reader" "UnreadScript$Reader" "to" "I") ∈ lw_all := lw_g (lw_at lw_m3 48 rfl) rfl
theorem q614 : (Jvm.Cond.soleField "UnreadScript$Reader" "to") ∈ lw_all := lw_g (lw_at lw_m3 49 rfl) rfl
theorem q615 : (Jvm.Cond.lays "UnreadScript$Reader" "UnreadScript$Reader" "kind" "I") ∈ lw_all := lw_g (lw_at lw_m3 50 rfl) rfl
theorem q616 : (Jvm.Cond.soleField "UnreadScript$Reader" "kind") ∈ lw_all := lw_g (lw_at lw_m3 51 rfl) rfl
theorem q617 : (Jvm.Cond.lays "UnreadScript$Reader" "UnreadScript$Reader" "value" "I") ∈ lw_all := lw_g (lw_at lw_m3 52 rfl) rfl
theorem q618 : (Jvm.Cond.soleField "UnreadScript$Reader" "value") ∈ lw_all := lw_g (lw_at lw_m3 53 rfl) rfl
theorem q619 : (Jvm.Cond.laysFinal "UnreadScript$Reader" "UnreadScript$Reader" "this$0" "LUnreadScript;") ∈ lw_all := lw_g (lw_at lw_m3 54 rfl) rfl
theorem q620 : (Jvm.Cond.soleField "UnreadScript$Reader" "this$0") ∈ lw_all := lw_g (lw_at lw_m3 55 rfl) rfl
theorem q621 : (Jvm.Cond.superclass "UnreadScript$Reader" "java/lang/Object") ∈ lw_all := lw_g (lw_at lw_m3 56 rfl) rfl
theorem q623 : (Jvm.Cond.instanceMethod ({ cls := "UnreadScript$Reader", name := "all", desc := "()V" } : Jvm.MethodName)) ∈ lw_all := lw_g (lw_at lw_m3 58 rfl) rfl
theorem q624 : (Jvm.Cond.selects "UnreadScript$Reader" ({ cls := "UnreadScript$Reader", name := "all", desc := "()V" } : Jvm.MethodName) ({ cls := "UnreadScript$Reader", name := "all", desc := "()V" } : Jvm.MethodName)) ∈ lw_all := lw_g (lw_at lw_m3 59 rfl) rfl
theorem q625 : (Jvm.Cond.code ({ cls := "UnreadScript$Reader", name := "all", desc := "()V" } : Jvm.MethodName) prog_5_method_9_code (1 : Nat) (Option.none : Option Jvm.ClassFile.FieldType)) ∈ lw_all := lw_g (lw_at lw_m3 60 rfl) rfl
theorem q626 : (Jvm.Cond.methodLink "UnreadScript$Reader" (111 : Nat) ({ cls := "UnreadScript$Reader", name := "claim", desc := "()V" } : Jvm.MethodName)) ∈ lw_all := lw_g (lw_at lw_m3 61 rfl) rfl
theorem q627 : (Jvm.Cond.privateMethod ({ cls := "UnreadScript$Reader", name := "claim", desc := "()V" } : Jvm.MethodName)) ∈ lw_tbl := lw_at lw_m3 62 rfl
theorem q628 : (Jvm.Cond.instanceMethod ({ cls := "UnreadScript$Reader", name := "claim", desc := "()V" } : Jvm.MethodName)) ∈ lw_all := lw_g (lw_at lw_m3 63 rfl) rfl
theorem q629 : (Jvm.Cond.code ({ cls := "UnreadScript$Reader", name := "claim", desc := "()V" } : Jvm.MethodName) prog_5_method_8_code (3 : Nat) (Option.none : Option Jvm.ClassFile.FieldType)) ∈ lw_all := lw_g (lw_at lw_m3 64 rfl) rfl
theorem q630 : (Jvm.Cond.classLink "UnreadScript$Reader" (86 : Nat) "UnreadScript$Claim") ∈ lw_all := lw_g (lw_at lw_m3 65 rfl) rfl
theorem q632 : (Jvm.Cond.methodLink "UnreadScript$Reader" (100 : Nat) ({ cls := "UnreadScript$Claim", name := "<init>", desc := "(III)V" } : Jvm.MethodName)) ∈ lw_all := lw_g (lw_at lw_m3 67 rfl) rfl
theorem q637 : (Jvm.Cond.fieldLinkNest "UnreadScript$Reader" (93 : Nat) "UnreadScript$Claim" "kind" "I" "UnreadScript") ∈ lw_tbl := lw_at lw_m3 72 rfl
theorem q640 : (Jvm.Cond.fieldLinkNest "UnreadScript$Reader" (94 : Nat) "UnreadScript$Claim" "number" "I" "UnreadScript") ∈ lw_tbl := lw_at lw_m3 75 rfl
theorem q644 : (Jvm.Cond.fieldLinkNest "UnreadScript$Reader" (90 : Nat) "UnreadScript$Claim" "on" "I" "UnreadScript") ∈ lw_tbl := lw_at lw_m3 79 rfl
theorem q647 : (Jvm.Cond.fieldLinkNest "UnreadScript$Reader" (85 : Nat) "UnreadScript$Claim" "gone" "I" "UnreadScript") ∈ lw_tbl := lw_at lw_m3 82 rfl
theorem q660 : (Jvm.Cond.methodLink "UnreadScript$Reader" (103 : Nat) ({ cls := "UnreadScript$Reader", name := "hangs", desc := "(LUnreadScript$Claim;)V" } : Jvm.MethodName)) ∈ lw_all := lw_g (lw_at lw_m3 95 rfl) rfl
theorem q661 : (Jvm.Cond.privateMethod ({ cls := "UnreadScript$Reader", name := "hangs", desc := "(LUnreadScript$Claim;)V" } : Jvm.MethodName)) ∈ lw_tbl := lw_at lw_m3 96 rfl
theorem q662 : (Jvm.Cond.instanceMethod ({ cls := "UnreadScript$Reader", name := "hangs", desc := "(LUnreadScript$Claim;)V" } : Jvm.MethodName)) ∈ lw_all := lw_g (lw_at lw_m3 97 rfl) rfl
theorem q663 : (Jvm.Cond.code ({ cls := "UnreadScript$Reader", name := "hangs", desc := "(LUnreadScript$Claim;)V" } : Jvm.MethodName) prog_5_method_7_code (2 : Nat) (Option.none : Option Jvm.ClassFile.FieldType)) ∈ lw_all := lw_g (lw_at lw_m3 98 rfl) rfl
theorem q664 : (Jvm.Cond.methodLink "UnreadScript$Reader" (107 : Nat) ({ cls := "UnreadScript$Reader", name := "isMark", desc := "(I)Z" } : Jvm.MethodName)) ∈ lw_all := lw_g (lw_at lw_m3 99 rfl) rfl
theorem q665 : (Jvm.Cond.privateMethod ({ cls := "UnreadScript$Reader", name := "isMark", desc := "(I)Z" } : Jvm.MethodName)) ∈ lw_tbl := lw_at lw_m3 100 rfl
theorem q666 : (Jvm.Cond.instanceMethod ({ cls := "UnreadScript$Reader", name := "isMark", desc := "(I)Z" } : Jvm.MethodName)) ∈ lw_all := lw_g (lw_at lw_m3 101 rfl) rfl
theorem q667 : (Jvm.Cond.code ({ cls := "UnreadScript$Reader", name := "isMark", desc := "(I)Z" } : Jvm.MethodName) prog_5_method_6_code (2 : Nat) (Option.some Jvm.ClassFile.FieldType.boolean)) ∈ lw_all := lw_g (lw_at lw_m3 102 rfl) rfl
theorem q778 : (Jvm.Cond.fieldLinkNest "UnreadScript$Reader" (81 : Nat) "UnreadScript" "claims" "[LUnreadScript$Claim;" "UnreadScript") ∈ lw_tbl := lw_at lw_m3 213 rfl
theorem q780 : (Jvm.Cond.fieldLinkNest "UnreadScript$Reader" (78 : Nat) "UnreadScript" "claimMany" "I" "UnreadScript") ∈ lw_tbl := lw_at lw_m3 215 rfl
theorem q782 : (Jvm.Cond.fieldLinkNest "UnreadScript$Reader" (97 : Nat) "UnreadScript" "today" "I" "UnreadScript") ∈ lw_tbl := lw_at lw_m3 217 rfl
theorem in_X7 : ∀ w ∈ wsX70, w ∈ lw_all := lw_in wsX70 [609, 611, 613, 615, 617, 619] (by decide +kernel) (by decide +kernel)
/-! UnreadScript$Fault -/
set_option maxRecDepth 100000
def RX8 : String := "UnreadScript$Fault"
def TX8 : u_T := fun k => match k with
  | 0 => ("java/lang/Throwable", "cause", "Ljava/lang/Throwable;", false)
  | 1 => ("java/lang/Throwable", "stackTrace", "[Ljava/lang/StackTraceElement;", false)
  | 2 => ("java/lang/Throwable", "suppressedExceptions", "Ljava/util/List;", false)
  | 3 => ("java/lang/Throwable", "detailMessage", "Ljava/lang/String;", false)
  | 4 => ("java/lang/Throwable", "backtrace", "Ljava/lang/Object;", false)
  | 5 => ("java/lang/Throwable", "depth", "I", false)
  | 6 => ("UnreadScript$Fault", "code", "I", true)
  | _ => ("UnreadScript$Fault", "place", "I", true)
def tyX8 : Nat → FieldType := fun k => match k with
  | 0 => .object "java/lang/Throwable"
  | 1 => .array (.object "java/lang/StackTraceElement")
  | 2 => .object "java/util/List"
  | 3 => .object "java/lang/String"
  | 4 => .object "java/lang/Object"
  | 5 => .int
  | 6 => .int
  | _ => .int
abbrev wsX80 : List Cond := u_ws RX8 TX8 8
theorem nmX8 : ∀ a, a < 8 → ∀ b, b < 8 → a ≠ b → (TX8 a).2.1 ≠ (TX8 b).2.1 := by decide +kernel
theorem tyX8_ok : ∀ k, k < 8 → parseFieldDescriptor (TX8 k).2.2.1 = some (tyX8 k) := by decide +kernel
abbrev cX8_init : ByteArray := prog_3_method_1_code
def yX8_init : MethodName := ⟨RX8, "<init>", "(II)V"⟩
def dkwX8_init_0 : List UInt8 := [42, 1, 1, 3, 3, 183, 0, 1, 42, 27, 181, 0, 7, 42, 28, 181, 0, 13, 177]
abbrev dktX8_init_0 : List UInt8 := dkwX8_init_0 ++ []
theorem dksX8_init_0 : cX8_init.data.toList.drop 0 = dktX8_init_0 := by decide +kernel
theorem dX8_init_0 : decode cX8_init 0 = .ok (.aload_n 0, 1) := dk_42 (dk_at dksX8_init_0 0 rfl rfl)
theorem dX8_init_1 : decode cX8_init 1 = .ok (.aconst_null, 1) := dk_1 (dk_at dksX8_init_0 1 rfl rfl)
theorem dX8_init_2 : decode cX8_init 2 = .ok (.aconst_null, 1) := dk_1 (dk_at dksX8_init_0 2 rfl rfl)
theorem dX8_init_3 : decode cX8_init 3 = .ok (.iconst 0, 1) := dk_3 (dk_at dksX8_init_0 3 rfl rfl)
theorem dX8_init_4 : decode cX8_init 4 = .ok (.iconst 0, 1) := dk_3 (dk_at dksX8_init_0 4 rfl rfl)
theorem dX8_init_5 : decode cX8_init 5 = .ok (.invokespecial 1, 3) := dk_183 0 1 (dk_at dksX8_init_0 5 rfl rfl)
theorem dX8_init_8 : decode cX8_init 8 = .ok (.aload_n 0, 1) := dk_42 (dk_at dksX8_init_0 8 rfl rfl)
theorem dX8_init_9 : decode cX8_init 9 = .ok (.iload_n 1, 1) := dk_27 (dk_at dksX8_init_0 9 rfl rfl)
theorem dX8_init_10 : decode cX8_init 10 = .ok (.putfield 7, 3) := dk_181 0 7 (dk_at dksX8_init_0 10 rfl rfl)
theorem dX8_init_13 : decode cX8_init 13 = .ok (.aload_n 0, 1) := dk_42 (dk_at dksX8_init_0 13 rfl rfl)
theorem dX8_init_14 : decode cX8_init 14 = .ok (.iload_n 2, 1) := dk_28 (dk_at dksX8_init_0 14 rfl rfl)
theorem dX8_init_15 : decode cX8_init 15 = .ok (.putfield 13, 3) := dk_181 0 13 (dk_at dksX8_init_0 15 rfl rfl)
theorem dX8_init_18 : decode cX8_init 18 = .ok (.return_, 1) := dk_177 (dk_at dksX8_init_0 18 rfl rfl)
theorem q109 : (Jvm.Cond.initialized "UnreadScript$Fault") ∈ lw_all := lw_g (lw_at lw_m1 24 rfl) rfl
theorem q512 : (Jvm.Cond.instantiable "UnreadScript$Fault" (8 : Nat)) ∈ lw_all := lw_g (lw_at lw_m2 187 rfl) rfl
theorem q513 : (Jvm.Cond.castable "UnreadScript$Fault" "UnreadScript$Fault") ∈ lw_tbl := lw_at lw_m2 188 rfl
theorem q520 : (Jvm.Cond.selects "UnreadScript$Fault" ({ cls := "java/lang/Throwable", name := "fillInStackTrace", desc := "(I)Ljava/lang/Throwable;" } : Jvm.MethodName) ({ cls := "java/lang/Throwable", name := "fillInStackTrace", desc := "(I)Ljava/lang/Throwable;" } : Jvm.MethodName)) ∈ lw_all := lw_g (lw_at lw_m2 195 rfl) rfl
theorem q521 : (Jvm.Cond.selects "UnreadScript$Fault" ({ cls := "java/lang/Throwable", name := "fillInStackTrace", desc := "()Ljava/lang/Throwable;" } : Jvm.MethodName) ({ cls := "java/lang/Throwable", name := "fillInStackTrace", desc := "()Ljava/lang/Throwable;" } : Jvm.MethodName)) ∈ lw_all := lw_g (lw_at lw_m2 196 rfl) rfl
theorem q522 : (Jvm.Cond.lays "UnreadScript$Fault" "java/lang/Throwable" "cause" "Ljava/lang/Throwable;") ∈ lw_all := lw_g (lw_at lw_m2 197 rfl) rfl
theorem q524 : (Jvm.Cond.lays "UnreadScript$Fault" "java/lang/Throwable" "stackTrace" "[Ljava/lang/StackTraceElement;") ∈ lw_all := lw_g (lw_at lw_m2 199 rfl) rfl
theorem q526 : (Jvm.Cond.lays "UnreadScript$Fault" "java/lang/Throwable" "suppressedExceptions" "Ljava/util/List;") ∈ lw_all := lw_g (lw_at lw_m2 201 rfl) rfl
theorem q528 : (Jvm.Cond.lays "UnreadScript$Fault" "java/lang/Throwable" "detailMessage" "Ljava/lang/String;") ∈ lw_all := lw_g (lw_at lw_m2 203 rfl) rfl
theorem q530 : (Jvm.Cond.lays "UnreadScript$Fault" "java/lang/Throwable" "backtrace" "Ljava/lang/Object;") ∈ lw_all := lw_g (lw_at lw_m2 205 rfl) rfl
theorem q568 : (Jvm.Cond.instanceMethod ({ cls := "UnreadScript$Fault", name := "<init>", desc := "(II)V" } : Jvm.MethodName)) ∈ lw_all := lw_g (lw_at lw_m3 3 rfl) rfl
theorem q569 : (Jvm.Cond.code ({ cls := "UnreadScript$Fault", name := "<init>", desc := "(II)V" } : Jvm.MethodName) prog_3_method_1_code (3 : Nat) (Option.none : Option Jvm.ClassFile.FieldType)) ∈ lw_all := lw_g (lw_at lw_m3 4 rfl) rfl
theorem q570 : (Jvm.Cond.methodLink "UnreadScript$Fault" (1 : Nat) ({ cls := "java/lang/RuntimeException", name := "<init>", desc := "(Ljava/lang/String;Ljava/lang/Throwable;ZZ)V" } : Jvm.MethodName)) ∈ lw_all := lw_g (lw_at lw_m3 5 rfl) rfl
theorem q579 : (Jvm.Cond.fieldLink "UnreadScript$Fault" (7 : Nat) "UnreadScript$Fault" "code" "I") ∈ lw_all := lw_g (lw_at lw_m3 14 rfl) rfl
theorem q581 : (Jvm.Cond.fieldLink "UnreadScript$Fault" (13 : Nat) "UnreadScript$Fault" "place" "I") ∈ lw_all := lw_g (lw_at lw_m3 16 rfl) rfl
theorem q588 : (Jvm.Cond.laysFinal "UnreadScript$Fault" "UnreadScript$Fault" "code" "I") ∈ lw_all := lw_g (lw_at lw_m3 23 rfl) rfl
theorem q589 : (Jvm.Cond.soleField "UnreadScript$Fault" "code") ∈ lw_all := lw_g (lw_at lw_m3 24 rfl) rfl
theorem q590 : (Jvm.Cond.laysFinal "UnreadScript$Fault" "UnreadScript$Fault" "place" "I") ∈ lw_all := lw_g (lw_at lw_m3 25 rfl) rfl
theorem q591 : (Jvm.Cond.soleField "UnreadScript$Fault" "place") ∈ lw_all := lw_g (lw_at lw_m3 26 rfl) rfl
theorem q596 : (Jvm.Cond.lays "UnreadScript$Fault" "java/lang/Throwable" "depth" "I") ∈ lw_all := lw_g (lw_at lw_m3 31 rfl) rfl
theorem q599 : (Jvm.Cond.superclass "UnreadScript$Fault" "java/lang/RuntimeException") ∈ lw_all := lw_g (lw_at lw_m3 34 rfl) rfl
theorem in_X8 : ∀ w ∈ wsX80, w ∈ lw_all := lw_in wsX80 [522, 524, 526, 528, 530, 596, 588, 590] (by decide +kernel) (by decide +kernel)
/-! UnreadScript$Claim -/
set_option maxRecDepth 100000
def RX9 : String := "UnreadScript$Claim"
def TX9 : u_T := fun k => match k with
  | 0 => ("UnreadScript$Claim", "kind", "I", true)
  | 1 => ("UnreadScript$Claim", "number", "I", true)
  | 2 => ("UnreadScript$Claim", "came", "I", true)
  | 3 => ("UnreadScript$Claim", "on", "I", false)
  | _ => ("UnreadScript$Claim", "gone", "I", false)
def tyX9 : Nat → FieldType := fun k => match k with
  | 0 => .int
  | 1 => .int
  | 2 => .int
  | 3 => .int
  | _ => .int
abbrev wsX90 : List Cond := u_ws RX9 TX9 5
theorem nmX9 : ∀ a, a < 5 → ∀ b, b < 5 → a ≠ b → (TX9 a).2.1 ≠ (TX9 b).2.1 := by decide +kernel
theorem tyX9_ok : ∀ k, k < 5 → parseFieldDescriptor (TX9 k).2.2.1 = some (tyX9 k) := by decide +kernel
abbrev cX9_init : ByteArray := prog_2_method_1_code
def yX9_init : MethodName := ⟨RX9, "<init>", "(III)V"⟩
def dkwX9_init_1 : List UInt8 := [181, 0, 21, 177]
abbrev dktX9_init_1 : List UInt8 := dkwX9_init_1 ++ []
def dkwX9_init_0 : List UInt8 := [42, 183, 0, 3, 42, 16, 252, 181, 0, 9, 42, 27, 181, 0, 15, 42, 28, 181, 0, 18, 42, 29]
abbrev dktX9_init_0 : List UInt8 := dkwX9_init_0 ++ dktX9_init_1
theorem dksX9_init_0 : cX9_init.data.toList.drop 0 = dktX9_init_0 := by decide +kernel
theorem dksX9_init_1 : cX9_init.data.toList.drop 22 = dktX9_init_1 := dk_seg dksX9_init_0 22 rfl rfl
theorem dX9_init_0 : decode cX9_init 0 = .ok (.aload_n 0, 1) := dk_42 (dk_at dksX9_init_0 0 rfl rfl)
theorem dX9_init_1 : decode cX9_init 1 = .ok (.invokespecial 3, 3) := dk_183 0 3 (dk_at dksX9_init_0 1 rfl rfl)
theorem dX9_init_4 : decode cX9_init 4 = .ok (.aload_n 0, 1) := dk_42 (dk_at dksX9_init_0 4 rfl rfl)
theorem dX9_init_5 : decode cX9_init 5 = .ok (.bipush (-4), 2) := dk_16 252 (dk_at dksX9_init_0 5 rfl rfl)
theorem dX9_init_7 : decode cX9_init 7 = .ok (.putfield 9, 3) := dk_181 0 9 (dk_at dksX9_init_0 7 rfl rfl)
theorem dX9_init_10 : decode cX9_init 10 = .ok (.aload_n 0, 1) := dk_42 (dk_at dksX9_init_0 10 rfl rfl)
theorem dX9_init_11 : decode cX9_init 11 = .ok (.iload_n 1, 1) := dk_27 (dk_at dksX9_init_0 11 rfl rfl)
theorem dX9_init_12 : decode cX9_init 12 = .ok (.putfield 15, 3) := dk_181 0 15 (dk_at dksX9_init_0 12 rfl rfl)
theorem dX9_init_15 : decode cX9_init 15 = .ok (.aload_n 0, 1) := dk_42 (dk_at dksX9_init_0 15 rfl rfl)
theorem dX9_init_16 : decode cX9_init 16 = .ok (.iload_n 2, 1) := dk_28 (dk_at dksX9_init_0 16 rfl rfl)
theorem dX9_init_17 : decode cX9_init 17 = .ok (.putfield 18, 3) := dk_181 0 18 (dk_at dksX9_init_0 17 rfl rfl)
theorem dX9_init_20 : decode cX9_init 20 = .ok (.aload_n 0, 1) := dk_42 (dk_at dksX9_init_0 20 rfl rfl)
theorem dX9_init_21 : decode cX9_init 21 = .ok (.iload_n 3, 1) := dk_29 (dk_at dksX9_init_0 21 rfl rfl)
theorem dX9_init_22 : decode cX9_init 22 = .ok (.putfield 21, 3) := dk_181 0 21 (dk_at dksX9_init_1 0 rfl rfl)
theorem dX9_init_25 : decode cX9_init 25 = .ok (.return_, 1) := dk_177 (dk_at dksX9_init_1 3 rfl rfl)
abbrev cX9_isKnown : ByteArray := prog_2_method_2_code
def yX9_isKnown : MethodName := ⟨RX9, "isKnown", "(I)Z"⟩
def dkwX9_isKnown_1 : List UInt8 := [164, 0, 7, 4, 167, 0, 4, 3, 172]
abbrev dktX9_isKnown_1 : List UInt8 := dkwX9_isKnown_1 ++ []
def dkwX9_isKnown_0 : List UInt8 := [42, 180, 0, 21, 27, 163, 0, 24, 42, 180, 0, 9, 16, 252, 159, 0, 11, 42, 180, 0, 9, 27]
abbrev dktX9_isKnown_0 : List UInt8 := dkwX9_isKnown_0 ++ dktX9_isKnown_1
theorem dksX9_isKnown_0 : cX9_isKnown.data.toList.drop 0 = dktX9_isKnown_0 := by decide +kernel
theorem dksX9_isKnown_1 : cX9_isKnown.data.toList.drop 22 = dktX9_isKnown_1 := dk_seg dksX9_isKnown_0 22 rfl rfl
theorem dX9_isKnown_0 : decode cX9_isKnown 0 = .ok (.aload_n 0, 1) := dk_42 (dk_at dksX9_isKnown_0 0 rfl rfl)
theorem dX9_isKnown_1 : decode cX9_isKnown 1 = .ok (.getfield 21, 3) := dk_180 0 21 (dk_at dksX9_isKnown_0 1 rfl rfl)
theorem dX9_isKnown_4 : decode cX9_isKnown 4 = .ok (.iload_n 1, 1) := dk_27 (dk_at dksX9_isKnown_0 4 rfl rfl)
theorem dX9_isKnown_5 : decode cX9_isKnown 5 = .ok (.if_icmp .gt 24, 3) := dk_163 0 24 (dk_at dksX9_isKnown_0 5 rfl rfl)
theorem dX9_isKnown_8 : decode cX9_isKnown 8 = .ok (.aload_n 0, 1) := dk_42 (dk_at dksX9_isKnown_0 8 rfl rfl)
theorem dX9_isKnown_9 : decode cX9_isKnown 9 = .ok (.getfield 9, 3) := dk_180 0 9 (dk_at dksX9_isKnown_0 9 rfl rfl)
theorem dX9_isKnown_12 : decode cX9_isKnown 12 = .ok (.bipush (-4), 2) := dk_16 252 (dk_at dksX9_isKnown_0 12 rfl rfl)
theorem dX9_isKnown_14 : decode cX9_isKnown 14 = .ok (.if_icmp .eq 11, 3) := dk_159 0 11 (dk_at dksX9_isKnown_0 14 rfl rfl)
theorem dX9_isKnown_17 : decode cX9_isKnown 17 = .ok (.aload_n 0, 1) := dk_42 (dk_at dksX9_isKnown_0 17 rfl rfl)
theorem dX9_isKnown_18 : decode cX9_isKnown 18 = .ok (.getfield 9, 3) := dk_180 0 9 (dk_at dksX9_isKnown_0 18 rfl rfl)
theorem dX9_isKnown_21 : decode cX9_isKnown 21 = .ok (.iload_n 1, 1) := dk_27 (dk_at dksX9_isKnown_0 21 rfl rfl)
theorem dX9_isKnown_22 : decode cX9_isKnown 22 = .ok (.if_icmp .le 7, 3) := dk_164 0 7 (dk_at dksX9_isKnown_1 0 rfl rfl)
theorem dX9_isKnown_25 : decode cX9_isKnown 25 = .ok (.iconst 1, 1) := dk_4 (dk_at dksX9_isKnown_1 3 rfl rfl)
theorem dX9_isKnown_26 : decode cX9_isKnown 26 = .ok (.goto 4, 3) := dk_167 0 4 (dk_at dksX9_isKnown_1 4 rfl rfl)
theorem dX9_isKnown_29 : decode cX9_isKnown 29 = .ok (.iconst 0, 1) := dk_3 (dk_at dksX9_isKnown_1 7 rfl rfl)
theorem dX9_isKnown_30 : decode cX9_isKnown 30 = .ok (.ireturn, 1) := dk_172 (dk_at dksX9_isKnown_1 8 rfl rfl)
theorem q110 : (Jvm.Cond.initialized "UnreadScript$Claim") ∈ lw_all := lw_g (lw_at lw_m1 25 rfl) rfl
theorem q631 : (Jvm.Cond.instantiable "UnreadScript$Claim" (5 : Nat)) ∈ lw_all := lw_g (lw_at lw_m3 66 rfl) rfl
theorem q633 : (Jvm.Cond.instanceMethod ({ cls := "UnreadScript$Claim", name := "<init>", desc := "(III)V" } : Jvm.MethodName)) ∈ lw_all := lw_g (lw_at lw_m3 68 rfl) rfl
theorem q634 : (Jvm.Cond.code ({ cls := "UnreadScript$Claim", name := "<init>", desc := "(III)V" } : Jvm.MethodName) prog_2_method_1_code (4 : Nat) (Option.none : Option Jvm.ClassFile.FieldType)) ∈ lw_all := lw_g (lw_at lw_m3 69 rfl) rfl
theorem q635 : (Jvm.Cond.methodLink "UnreadScript$Claim" (3 : Nat) ({ cls := "java/lang/Object", name := "<init>", desc := "()V" } : Jvm.MethodName)) ∈ lw_all := lw_g (lw_at lw_m3 70 rfl) rfl
theorem q636 : (Jvm.Cond.fieldLink "UnreadScript$Claim" (15 : Nat) "UnreadScript$Claim" "kind" "I") ∈ lw_all := lw_g (lw_at lw_m3 71 rfl) rfl
theorem q639 : (Jvm.Cond.fieldLink "UnreadScript$Claim" (18 : Nat) "UnreadScript$Claim" "number" "I") ∈ lw_all := lw_g (lw_at lw_m3 74 rfl) rfl
theorem q642 : (Jvm.Cond.fieldLink "UnreadScript$Claim" (21 : Nat) "UnreadScript$Claim" "came" "I") ∈ lw_all := lw_g (lw_at lw_m3 77 rfl) rfl
theorem q646 : (Jvm.Cond.fieldLink "UnreadScript$Claim" (9 : Nat) "UnreadScript$Claim" "gone" "I") ∈ lw_all := lw_g (lw_at lw_m3 81 rfl) rfl
theorem q649 : (Jvm.Cond.laysFinal "UnreadScript$Claim" "UnreadScript$Claim" "kind" "I") ∈ lw_all := lw_g (lw_at lw_m3 84 rfl) rfl
theorem q650 : (Jvm.Cond.soleField "UnreadScript$Claim" "kind") ∈ lw_all := lw_g (lw_at lw_m3 85 rfl) rfl
theorem q651 : (Jvm.Cond.laysFinal "UnreadScript$Claim" "UnreadScript$Claim" "number" "I") ∈ lw_all := lw_g (lw_at lw_m3 86 rfl) rfl
theorem q652 : (Jvm.Cond.soleField "UnreadScript$Claim" "number") ∈ lw_all := lw_g (lw_at lw_m3 87 rfl) rfl
theorem q653 : (Jvm.Cond.laysFinal "UnreadScript$Claim" "UnreadScript$Claim" "came" "I") ∈ lw_all := lw_g (lw_at lw_m3 88 rfl) rfl
theorem q654 : (Jvm.Cond.soleField "UnreadScript$Claim" "came") ∈ lw_all := lw_g (lw_at lw_m3 89 rfl) rfl
theorem q655 : (Jvm.Cond.lays "UnreadScript$Claim" "UnreadScript$Claim" "on" "I") ∈ lw_all := lw_g (lw_at lw_m3 90 rfl) rfl
theorem q656 : (Jvm.Cond.soleField "UnreadScript$Claim" "on") ∈ lw_all := lw_g (lw_at lw_m3 91 rfl) rfl
theorem q657 : (Jvm.Cond.lays "UnreadScript$Claim" "UnreadScript$Claim" "gone" "I") ∈ lw_all := lw_g (lw_at lw_m3 92 rfl) rfl
theorem q658 : (Jvm.Cond.soleField "UnreadScript$Claim" "gone") ∈ lw_all := lw_g (lw_at lw_m3 93 rfl) rfl
theorem q659 : (Jvm.Cond.superclass "UnreadScript$Claim" "java/lang/Object") ∈ lw_all := lw_g (lw_at lw_m3 94 rfl) rfl
theorem q702 : (Jvm.Cond.instanceMethod ({ cls := "UnreadScript$Claim", name := "isKnown", desc := "(I)Z" } : Jvm.MethodName)) ∈ lw_all := lw_g (lw_at lw_m3 137 rfl) rfl
theorem q703 : (Jvm.Cond.selects "UnreadScript$Claim" ({ cls := "UnreadScript$Claim", name := "isKnown", desc := "(I)Z" } : Jvm.MethodName) ({ cls := "UnreadScript$Claim", name := "isKnown", desc := "(I)Z" } : Jvm.MethodName)) ∈ lw_all := lw_g (lw_at lw_m3 138 rfl) rfl
theorem q704 : (Jvm.Cond.code ({ cls := "UnreadScript$Claim", name := "isKnown", desc := "(I)Z" } : Jvm.MethodName) prog_2_method_2_code (2 : Nat) (Option.some Jvm.ClassFile.FieldType.boolean)) ∈ lw_all := lw_g (lw_at lw_m3 139 rfl) rfl
theorem in_X9 : ∀ w ∈ wsX90, w ∈ lw_all := lw_in wsX90 [649, 651, 653, 655, 657] (by decide +kernel) (by decide +kernel)
