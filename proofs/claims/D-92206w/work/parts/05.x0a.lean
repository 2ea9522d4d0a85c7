/-! UnreadScript -/
set_option maxRecDepth 100000
def RX0 : String := "UnreadScript"
def TX0 : u_T := fun k => match k with
  | 0 => ("UnreadScript", "forms", "[I", true)
  | 1 => ("UnreadScript", "formMany", "I", false)
  | 2 => ("UnreadScript", "likeness", "I", false)
  | 3 => ("UnreadScript", "signOf", "[I", true)
  | 4 => ("UnreadScript", "told", "[[I", true)
  | 5 => ("UnreadScript", "texts", "[LUnreadScript$Text;", true)
  | 6 => ("UnreadScript", "textMany", "I", false)
  | 7 => ("UnreadScript", "begun", "[I", true)
  | 8 => ("UnreadScript", "ended", "[I", true)
  | 9 => ("UnreadScript", "wordText", "[I", true)
  | 10 => ("UnreadScript", "wordFrom", "[I", true)
  | 11 => ("UnreadScript", "wordTo", "[I", true)
  | 12 => ("UnreadScript", "wordMany", "I", false)
  | 13 => ("UnreadScript", "akin", "[[I", true)
  | 14 => ("UnreadScript", "apart", "[[I", true)
  | 15 => ("UnreadScript", "gridSigns", "[I", true)
  | 16 => ("UnreadScript", "gridMany", "I", false)
  | 17 => ("UnreadScript", "rowOf", "[I", true)
  | 18 => ("UnreadScript", "bestRow", "[I", true)
  | 19 => ("UnreadScript", "items", "[I", true)
  | 20 => ("UnreadScript", "totals", "[I", true)
  | 21 => ("UnreadScript", "accountMany", "I", false)
  | 22 => ("UnreadScript", "picks", "[I", true)
  | 23 => ("UnreadScript", "names", "[LUnreadScript$Name;", true)
  | 24 => ("UnreadScript", "nameMany", "I", false)
  | 25 => ("UnreadScript", "words", "[LUnreadScript$Word;", true)
  | 26 => ("UnreadScript", "tongueMany", "I", false)
  | 27 => ("UnreadScript", "isSpoken", "[[Z", true)
  | 28 => ("UnreadScript", "signFor", "[I", true)
  | 29 => ("UnreadScript", "soundFor", "[I", true)
  | 30 => ("UnreadScript", "tabled", "[I", true)
  | 31 => ("UnreadScript", "tabledMany", "I", false)
  | 32 => ("UnreadScript", "placeOf", "[I", true)
  | 33 => ("UnreadScript", "sounds", "[I", true)
  | 34 => ("UnreadScript", "spelt", "[[I", true)
  | 35 => ("UnreadScript", "speltMany", "I", false)
  | 36 => ("UnreadScript", "bestTable", "I", false)
  | 37 => ("UnreadScript", "bestRead", "I", false)
  | 38 => ("UnreadScript", "bestMany", "I", false)
  | 39 => ("UnreadScript", "order", "[I", true)
  | 40 => ("UnreadScript", "shuffles", "I", false)
  | 41 => ("UnreadScript", "asGood", "I", false)
  | 42 => ("UnreadScript", "claims", "[LUnreadScript$Claim;", true)
  | 43 => ("UnreadScript", "claimMany", "I", false)
  | 44 => ("UnreadScript", "today", "I", false)
  | 45 => ("UnreadScript", "tape", "[B", true)
  | 46 => ("UnreadScript", "taped", "I", false)
  | 47 => ("UnreadScript", "fault", "I", false)
  | _ => ("UnreadScript", "sheets", "[LUnreadScript$Sheet;", true)
def tyX0 : Nat → FieldType := fun k => match k with
  | 0 => .array .int
  | 1 => .int
  | 2 => .int
  | 3 => .array .int
  | 4 => .array (.array .int)
  | 5 => .array (.object "UnreadScript$Text")
  | 6 => .int
  | 7 => .array .int
  | 8 => .array .int
  | 9 => .array .int
  | 10 => .array .int
  | 11 => .array .int
  | 12 => .int
  | 13 => .array (.array .int)
  | 14 => .array (.array .int)
  | 15 => .array .int
  | 16 => .int
  | 17 => .array .int
  | 18 => .array .int
  | 19 => .array .int
  | 20 => .array .int
  | 21 => .int
  | 22 => .array .int
  | 23 => .array (.object "UnreadScript$Name")
  | 24 => .int
  | 25 => .array (.object "UnreadScript$Word")
  | 26 => .int
  | 27 => .array (.array .boolean)
  | 28 => .array .int
  | 29 => .array .int
  | 30 => .array .int
  | 31 => .int
  | 32 => .array .int
  | 33 => .array .int
  | 34 => .array (.array .int)
  | 35 => .int
  | 36 => .int
  | 37 => .int
  | 38 => .int
  | 39 => .array .int
  | 40 => .int
  | 41 => .int
  | 42 => .array (.object "UnreadScript$Claim")
  | 43 => .int
  | 44 => .int
  | 45 => .array .byte
  | 46 => .int
  | 47 => .int
  | _ => .array (.object "UnreadScript$Sheet")
abbrev wsX00 : List Cond := u_ws RX0 TX0 49
set_option maxRecDepth 100000 in
theorem nmX0 : ∀ a, a < 49 → ∀ b, b < 49 → a ≠ b → (TX0 a).2.1 ≠ (TX0 b).2.1 := by decide +kernel
set_option maxRecDepth 100000 in
theorem tyX0_ok : ∀ k, k < 49 → parseFieldDescriptor (TX0 k).2.2.1 = some (tyX0 k) := by decide +kernel
abbrev cX0_form : ByteArray := prog_1_method_2_code
def yX0_form : MethodName := ⟨RX0, "form", "(I)I"⟩
def dkwX0_form_2 : List UInt8 := [180, 0, 9, 4, 100, 172]
abbrev dktX0_form_2 : List UInt8 := dkwX0_form_2 ++ []
def dkwX0_form_1 : List UInt8 := [16, 253, 172, 42, 180, 0, 13, 42, 180, 0, 9, 27, 79, 42, 89, 180, 0, 9, 4, 96, 181, 0, 9, 42]
abbrev dktX0_form_1 : List UInt8 := dkwX0_form_1 ++ dktX0_form_2
def dkwX0_form_0 : List UInt8 := [27, 133, 9, 20, 0, 3, 184, 0, 5, 154, 0, 5, 2, 172, 42, 180, 0, 9, 16, 24, 160, 0, 6]
abbrev dktX0_form_0 : List UInt8 := dkwX0_form_0 ++ dktX0_form_1
theorem dksX0_form_0 : cX0_form.data.toList.drop 0 = dktX0_form_0 := by decide +kernel
theorem dksX0_form_1 : cX0_form.data.toList.drop 23 = dktX0_form_1 := dk_seg dksX0_form_0 23 rfl rfl
theorem dksX0_form_2 : cX0_form.data.toList.drop 47 = dktX0_form_2 := dk_seg dksX0_form_1 24 rfl rfl
theorem dX0_form_0 : decode cX0_form 0 = .ok (.iload_n 1, 1) := dk_27 (dk_at dksX0_form_0 0 rfl rfl)
theorem dX0_form_1 : decode cX0_form 1 = .ok (.i2l, 1) := dk_133 (dk_at dksX0_form_0 1 rfl rfl)
theorem dX0_form_2 : decode cX0_form 2 = .ok (.lconst 0, 1) := dk_9 (dk_at dksX0_form_0 2 rfl rfl)
theorem dX0_form_3 : decode cX0_form 3 = .ok (.ldc2_w 3, 3) := dk_20 0 3 (dk_at dksX0_form_0 3 rfl rfl)
theorem dX0_form_6 : decode cX0_form 6 = .ok (.invokestatic 5, 3) := dk_184 0 5 (dk_at dksX0_form_0 6 rfl rfl)
theorem dX0_form_9 : decode cX0_form 9 = .ok (.ifCond .ne 5, 3) := dk_154 0 5 (dk_at dksX0_form_0 9 rfl rfl)
theorem dX0_form_12 : decode cX0_form 12 = .ok (.iconst (-1), 1) := dk_2 (dk_at dksX0_form_0 12 rfl rfl)
theorem dX0_form_13 : decode cX0_form 13 = .ok (.ireturn, 1) := dk_172 (dk_at dksX0_form_0 13 rfl rfl)
theorem dX0_form_14 : decode cX0_form 14 = .ok (.aload_n 0, 1) := dk_42 (dk_at dksX0_form_0 14 rfl rfl)
theorem dX0_form_15 : decode cX0_form 15 = .ok (.getfield 9, 3) := dk_180 0 9 (dk_at dksX0_form_0 15 rfl rfl)
theorem dX0_form_18 : decode cX0_form 18 = .ok (.bipush 24, 2) := dk_16 24 (dk_at dksX0_form_0 18 rfl rfl)
theorem dX0_form_20 : decode cX0_form 20 = .ok (.if_icmp .ne 6, 3) := dk_160 0 6 (dk_at dksX0_form_0 20 rfl rfl)
theorem dX0_form_23 : decode cX0_form 23 = .ok (.bipush (-3), 2) := dk_16 253 (dk_at dksX0_form_1 0 rfl rfl)
theorem dX0_form_25 : decode cX0_form 25 = .ok (.ireturn, 1) := dk_172 (dk_at dksX0_form_1 2 rfl rfl)
theorem dX0_form_26 : decode cX0_form 26 = .ok (.aload_n 0, 1) := dk_42 (dk_at dksX0_form_1 3 rfl rfl)
theorem dX0_form_27 : decode cX0_form 27 = .ok (.getfield 13, 3) := dk_180 0 13 (dk_at dksX0_form_1 4 rfl rfl)
theorem dX0_form_30 : decode cX0_form 30 = .ok (.aload_n 0, 1) := dk_42 (dk_at dksX0_form_1 7 rfl rfl)
theorem dX0_form_31 : decode cX0_form 31 = .ok (.getfield 9, 3) := dk_180 0 9 (dk_at dksX0_form_1 8 rfl rfl)
theorem dX0_form_34 : decode cX0_form 34 = .ok (.iload_n 1, 1) := dk_27 (dk_at dksX0_form_1 11 rfl rfl)
theorem dX0_form_35 : decode cX0_form 35 = .ok (.iastore, 1) := dk_79 (dk_at dksX0_form_1 12 rfl rfl)
theorem dX0_form_36 : decode cX0_form 36 = .ok (.aload_n 0, 1) := dk_42 (dk_at dksX0_form_1 13 rfl rfl)
theorem dX0_form_37 : decode cX0_form 37 = .ok (.dup, 1) := dk_89 (dk_at dksX0_form_1 14 rfl rfl)
theorem dX0_form_38 : decode cX0_form 38 = .ok (.getfield 9, 3) := dk_180 0 9 (dk_at dksX0_form_1 15 rfl rfl)
theorem dX0_form_41 : decode cX0_form 41 = .ok (.iconst 1, 1) := dk_4 (dk_at dksX0_form_1 18 rfl rfl)
theorem dX0_form_42 : decode cX0_form 42 = .ok (.iadd, 1) := dk_96 (dk_at dksX0_form_1 19 rfl rfl)
theorem dX0_form_43 : decode cX0_form 43 = .ok (.putfield 9, 3) := dk_181 0 9 (dk_at dksX0_form_1 20 rfl rfl)
theorem dX0_form_46 : decode cX0_form 46 = .ok (.aload_n 0, 1) := dk_42 (dk_at dksX0_form_1 23 rfl rfl)
theorem dX0_form_47 : decode cX0_form 47 = .ok (.getfield 9, 3) := dk_180 0 9 (dk_at dksX0_form_2 0 rfl rfl)
theorem dX0_form_50 : decode cX0_form 50 = .ok (.iconst 1, 1) := dk_4 (dk_at dksX0_form_2 3 rfl rfl)
theorem dX0_form_51 : decode cX0_form 51 = .ok (.isub, 1) := dk_100 (dk_at dksX0_form_2 4 rfl rfl)
theorem dX0_form_52 : decode cX0_form 52 = .ok (.ireturn, 1) := dk_172 (dk_at dksX0_form_2 5 rfl rfl)
abbrev cX0_isIn : ByteArray := prog_1_method_1_code
def yX0_isIn : MethodName := ⟨RX0, "isIn", "(JJJ)Z"⟩
def dkwX0_isIn_0 : List UInt8 := [30, 32, 148, 155, 0, 14, 30, 22, 4, 148, 157, 0, 7, 4, 167, 0, 4, 3, 172]
abbrev dktX0_isIn_0 : List UInt8 := dkwX0_isIn_0 ++ []
theorem dksX0_isIn_0 : cX0_isIn.data.toList.drop 0 = dktX0_isIn_0 := by decide +kernel
theorem dX0_isIn_0 : decode cX0_isIn 0 = .ok (.lload_n 0, 1) := dk_30 (dk_at dksX0_isIn_0 0 rfl rfl)
theorem dX0_isIn_1 : decode cX0_isIn 1 = .ok (.lload_n 2, 1) := dk_32 (dk_at dksX0_isIn_0 1 rfl rfl)
theorem dX0_isIn_2 : decode cX0_isIn 2 = .ok (.lcmp, 1) := dk_148 (dk_at dksX0_isIn_0 2 rfl rfl)
theorem dX0_isIn_3 : decode cX0_isIn 3 = .ok (.ifCond .lt 14, 3) := dk_155 0 14 (dk_at dksX0_isIn_0 3 rfl rfl)
theorem dX0_isIn_6 : decode cX0_isIn 6 = .ok (.lload_n 0, 1) := dk_30 (dk_at dksX0_isIn_0 6 rfl rfl)
theorem dX0_isIn_7 : decode cX0_isIn 7 = .ok (.lload 4, 2) := dk_22 4 (dk_at dksX0_isIn_0 7 rfl rfl)
theorem dX0_isIn_9 : decode cX0_isIn 9 = .ok (.lcmp, 1) := dk_148 (dk_at dksX0_isIn_0 9 rfl rfl)
theorem dX0_isIn_10 : decode cX0_isIn 10 = .ok (.ifCond .gt 7, 3) := dk_157 0 7 (dk_at dksX0_isIn_0 10 rfl rfl)
theorem dX0_isIn_13 : decode cX0_isIn 13 = .ok (.iconst 1, 1) := dk_4 (dk_at dksX0_isIn_0 13 rfl rfl)
theorem dX0_isIn_14 : decode cX0_isIn 14 = .ok (.goto 4, 3) := dk_167 0 4 (dk_at dksX0_isIn_0 14 rfl rfl)
theorem dX0_isIn_17 : decode cX0_isIn 17 = .ok (.iconst 0, 1) := dk_3 (dk_at dksX0_isIn_0 17 rfl rfl)
theorem dX0_isIn_18 : decode cX0_isIn 18 = .ok (.ireturn, 1) := dk_172 (dk_at dksX0_isIn_0 18 rfl rfl)
abbrev cX0_likeness : ByteArray := prog_1_method_3_code
def yX0_likeness : MethodName := ⟨RX0, "likeness", "(I)I"⟩
def dkwX0_likeness_1 : List UInt8 := [28, 172]
abbrev dktX0_likeness_1 : List UInt8 := dkwX0_likeness_1 ++ []
def dkwX0_likeness_0 : List UInt8 := [27, 133, 9, 20, 0, 17, 184, 0, 5, 154, 0, 5, 2, 172, 42, 180, 0, 19, 61, 42, 27, 181, 0, 19]
abbrev dktX0_likeness_0 : List UInt8 := dkwX0_likeness_0 ++ dktX0_likeness_1
theorem dksX0_likeness_0 : cX0_likeness.data.toList.drop 0 = dktX0_likeness_0 := by decide +kernel
theorem dksX0_likeness_1 : cX0_likeness.data.toList.drop 24 = dktX0_likeness_1 := dk_seg dksX0_likeness_0 24 rfl rfl
theorem dX0_likeness_0 : decode cX0_likeness 0 = .ok (.iload_n 1, 1) := dk_27 (dk_at dksX0_likeness_0 0 rfl rfl)
theorem dX0_likeness_1 : decode cX0_likeness 1 = .ok (.i2l, 1) := dk_133 (dk_at dksX0_likeness_0 1 rfl rfl)
theorem dX0_likeness_2 : decode cX0_likeness 2 = .ok (.lconst 0, 1) := dk_9 (dk_at dksX0_likeness_0 2 rfl rfl)
theorem dX0_likeness_3 : decode cX0_likeness 3 = .ok (.ldc2_w 17, 3) := dk_20 0 17 (dk_at dksX0_likeness_0 3 rfl rfl)
theorem dX0_likeness_6 : decode cX0_likeness 6 = .ok (.invokestatic 5, 3) := dk_184 0 5 (dk_at dksX0_likeness_0 6 rfl rfl)
theorem dX0_likeness_9 : decode cX0_likeness 9 = .ok (.ifCond .ne 5, 3) := dk_154 0 5 (dk_at dksX0_likeness_0 9 rfl rfl)
theorem dX0_likeness_12 : decode cX0_likeness 12 = .ok (.iconst (-1), 1) := dk_2 (dk_at dksX0_likeness_0 12 rfl rfl)
theorem dX0_likeness_13 : decode cX0_likeness 13 = .ok (.ireturn, 1) := dk_172 (dk_at dksX0_likeness_0 13 rfl rfl)
theorem dX0_likeness_14 : decode cX0_likeness 14 = .ok (.aload_n 0, 1) := dk_42 (dk_at dksX0_likeness_0 14 rfl rfl)
theorem dX0_likeness_15 : decode cX0_likeness 15 = .ok (.getfield 19, 3) := dk_180 0 19 (dk_at dksX0_likeness_0 15 rfl rfl)
theorem dX0_likeness_18 : decode cX0_likeness 18 = .ok (.istore_n 2, 1) := dk_61 (dk_at dksX0_likeness_0 18 rfl rfl)
theorem dX0_likeness_19 : decode cX0_likeness 19 = .ok (.aload_n 0, 1) := dk_42 (dk_at dksX0_likeness_0 19 rfl rfl)
theorem dX0_likeness_20 : decode cX0_likeness 20 = .ok (.iload_n 1, 1) := dk_27 (dk_at dksX0_likeness_0 20 rfl rfl)
theorem dX0_likeness_21 : decode cX0_likeness 21 = .ok (.putfield 19, 3) := dk_181 0 19 (dk_at dksX0_likeness_0 21 rfl rfl)
theorem dX0_likeness_24 : decode cX0_likeness 24 = .ok (.iload_n 2, 1) := dk_28 (dk_at dksX0_likeness_1 0 rfl rfl)
theorem dX0_likeness_25 : decode cX0_likeness 25 = .ok (.ireturn, 1) := dk_172 (dk_at dksX0_likeness_1 1 rfl rfl)
abbrev cX0_sign : ByteArray := prog_1_method_7_code
def yX0_sign : MethodName := ⟨RX0, "sign", "(I)I"⟩
def dkwX0_sign_0 : List UInt8 := [42, 27, 182, 0, 34, 154, 0, 5, 2, 172, 42, 182, 0, 38, 42, 180, 0, 22, 27, 46, 172]
abbrev dktX0_sign_0 : List UInt8 := dkwX0_sign_0 ++ []
theorem dksX0_sign_0 : cX0_sign.data.toList.drop 0 = dktX0_sign_0 := by decide +kernel
theorem dX0_sign_0 : decode cX0_sign 0 = .ok (.aload_n 0, 1) := dk_42 (dk_at dksX0_sign_0 0 rfl rfl)
theorem dX0_sign_1 : decode cX0_sign 1 = .ok (.iload_n 1, 1) := dk_27 (dk_at dksX0_sign_0 1 rfl rfl)
theorem dX0_sign_2 : decode cX0_sign 2 = .ok (.invokevirtual 34, 3) := dk_182 0 34 (dk_at dksX0_sign_0 2 rfl rfl)
theorem dX0_sign_5 : decode cX0_sign 5 = .ok (.ifCond .ne 5, 3) := dk_154 0 5 (dk_at dksX0_sign_0 5 rfl rfl)
theorem dX0_sign_8 : decode cX0_sign 8 = .ok (.iconst (-1), 1) := dk_2 (dk_at dksX0_sign_0 8 rfl rfl)
theorem dX0_sign_9 : decode cX0_sign 9 = .ok (.ireturn, 1) := dk_172 (dk_at dksX0_sign_0 9 rfl rfl)
theorem dX0_sign_10 : decode cX0_sign 10 = .ok (.aload_n 0, 1) := dk_42 (dk_at dksX0_sign_0 10 rfl rfl)
theorem dX0_sign_11 : decode cX0_sign 11 = .ok (.invokevirtual 38, 3) := dk_182 0 38 (dk_at dksX0_sign_0 11 rfl rfl)
theorem dX0_sign_14 : decode cX0_sign 14 = .ok (.aload_n 0, 1) := dk_42 (dk_at dksX0_sign_0 14 rfl rfl)
theorem dX0_sign_15 : decode cX0_sign 15 = .ok (.getfield 22, 3) := dk_180 0 22 (dk_at dksX0_sign_0 15 rfl rfl)
theorem dX0_sign_18 : decode cX0_sign 18 = .ok (.iload_n 1, 1) := dk_27 (dk_at dksX0_sign_0 18 rfl rfl)
theorem dX0_sign_19 : decode cX0_sign 19 = .ok (.iaload, 1) := dk_46 (dk_at dksX0_sign_0 19 rfl rfl)
theorem dX0_sign_20 : decode cX0_sign 20 = .ok (.ireturn, 1) := dk_172 (dk_at dksX0_sign_0 20 rfl rfl)
abbrev cX0_isForm : ByteArray := prog_1_method_4_code
def yX0_isForm : MethodName := ⟨RX0, "isForm", "(I)Z"⟩
def dkwX0_isForm_0 : List UInt8 := [27, 133, 9, 42, 180, 0, 9, 4, 100, 133, 184, 0, 5, 172]
abbrev dktX0_isForm_0 : List UInt8 := dkwX0_isForm_0 ++ []
theorem dksX0_isForm_0 : cX0_isForm.data.toList.drop 0 = dktX0_isForm_0 := by decide +kernel
theorem dX0_isForm_0 : decode cX0_isForm 0 = .ok (.iload_n 1, 1) := dk_27 (dk_at dksX0_isForm_0 0 rfl rfl)
theorem dX0_isForm_1 : decode cX0_isForm 1 = .ok (.i2l, 1) := dk_133 (dk_at dksX0_isForm_0 1 rfl rfl)
theorem dX0_isForm_2 : decode cX0_isForm 2 = .ok (.lconst 0, 1) := dk_9 (dk_at dksX0_isForm_0 2 rfl rfl)
theorem dX0_isForm_3 : decode cX0_isForm 3 = .ok (.aload_n 0, 1) := dk_42 (dk_at dksX0_isForm_0 3 rfl rfl)
theorem dX0_isForm_4 : decode cX0_isForm 4 = .ok (.getfield 9, 3) := dk_180 0 9 (dk_at dksX0_isForm_0 4 rfl rfl)
theorem dX0_isForm_7 : decode cX0_isForm 7 = .ok (.iconst 1, 1) := dk_4 (dk_at dksX0_isForm_0 7 rfl rfl)
theorem dX0_isForm_8 : decode cX0_isForm 8 = .ok (.isub, 1) := dk_100 (dk_at dksX0_isForm_0 8 rfl rfl)
theorem dX0_isForm_9 : decode cX0_isForm 9 = .ok (.i2l, 1) := dk_133 (dk_at dksX0_isForm_0 9 rfl rfl)
theorem dX0_isForm_10 : decode cX0_isForm 10 = .ok (.invokestatic 5, 3) := dk_184 0 5 (dk_at dksX0_isForm_0 10 rfl rfl)
theorem dX0_isForm_13 : decode cX0_isForm 13 = .ok (.ireturn, 1) := dk_172 (dk_at dksX0_isForm_0 13 rfl rfl)
abbrev cX0_layAll : ByteArray := prog_1_method_6_code
def yX0_layAll : MethodName := ⟨RX0, "layAll", "()V"⟩
def dkwX0_layAll_0 : List UInt8 := [42, 42, 180, 0, 19, 182, 0, 31, 87, 177]
abbrev dktX0_layAll_0 : List UInt8 := dkwX0_layAll_0 ++ []
theorem dksX0_layAll_0 : cX0_layAll.data.toList.drop 0 = dktX0_layAll_0 := by decide +kernel
theorem dX0_layAll_0 : decode cX0_layAll 0 = .ok (.aload_n 0, 1) := dk_42 (dk_at dksX0_layAll_0 0 rfl rfl)
theorem dX0_layAll_1 : decode cX0_layAll 1 = .ok (.aload_n 0, 1) := dk_42 (dk_at dksX0_layAll_0 1 rfl rfl)
theorem dX0_layAll_2 : decode cX0_layAll 2 = .ok (.getfield 19, 3) := dk_180 0 19 (dk_at dksX0_layAll_0 2 rfl rfl)
theorem dX0_layAll_5 : decode cX0_layAll 5 = .ok (.invokevirtual 31, 3) := dk_182 0 31 (dk_at dksX0_layAll_0 5 rfl rfl)
theorem dX0_layAll_8 : decode cX0_layAll 8 = .ok (.pop, 1) := dk_87 (dk_at dksX0_layAll_0 8 rfl rfl)
theorem dX0_layAll_9 : decode cX0_layAll 9 = .ok (.return_, 1) := dk_177 (dk_at dksX0_layAll_0 9 rfl rfl)
abbrev cX0_laySigns : ByteArray := prog_1_method_5_code
def yX0_laySigns : MethodName := ⟨RX0, "laySigns", "(I)I"⟩
def dkwX0_laySigns_6 : List UInt8 := [46, 21, 4, 160, 0, 7, 4, 167, 0, 4, 3, 96, 62, 132, 4, 1, 167, 255, 224, 29, 172]
abbrev dktX0_laySigns_6 : List UInt8 := dkwX0_laySigns_6 ++ []
def dkwX0_laySigns_5 : List UInt8 := [167, 255, 164, 3, 62, 3, 54, 4, 21, 4, 42, 180, 0, 9, 162, 0, 29, 29, 42, 180, 0, 22, 21, 4]
abbrev dktX0_laySigns_5 : List UInt8 := dkwX0_laySigns_5 ++ dktX0_laySigns_6
def dkwX0_laySigns_4 : List UInt8 := [29, 42, 180, 0, 22, 21, 4, 46, 79, 4, 61, 132, 4, 1, 167, 255, 192, 132, 3, 1, 167, 255, 175]
abbrev dktX0_laySigns_4 : List UInt8 := dkwX0_laySigns_4 ++ dktX0_laySigns_5
def dkwX0_laySigns_3 : List UInt8 := [180, 0, 13, 29, 46, 42, 180, 0, 13, 21, 4, 46, 130, 184, 0, 25, 27, 163, 0, 18, 42, 180, 0, 22]
abbrev dktX0_laySigns_3 : List UInt8 := dkwX0_laySigns_3 ++ dktX0_laySigns_4
def dkwX0_laySigns_2 : List UInt8 := [180, 0, 9, 162, 0, 61, 42, 180, 0, 22, 21, 4, 46, 42, 180, 0, 22, 29, 46, 162, 0, 39, 42]
abbrev dktX0_laySigns_2 : List UInt8 := dkwX0_laySigns_2 ++ dktX0_laySigns_3
def dkwX0_laySigns_1 : List UInt8 := [61, 28, 153, 0, 94, 3, 61, 3, 62, 29, 42, 180, 0, 9, 162, 0, 79, 3, 54, 4, 21, 4, 42]
abbrev dktX0_laySigns_1 : List UInt8 := dkwX0_laySigns_1 ++ dktX0_laySigns_2
def dkwX0_laySigns_0 : List UInt8 := [3, 61, 28, 42, 180, 0, 9, 162, 0, 16, 42, 180, 0, 22, 28, 28, 79, 132, 2, 1, 167, 255, 238, 4]
abbrev dktX0_laySigns_0 : List UInt8 := dkwX0_laySigns_0 ++ dktX0_laySigns_1
theorem dksX0_laySigns_0 : cX0_laySigns.data.toList.drop 0 = dktX0_laySigns_0 := by decide +kernel
theorem dksX0_laySigns_1 : cX0_laySigns.data.toList.drop 24 = dktX0_laySigns_1 := dk_seg dksX0_laySigns_0 24 rfl rfl
theorem dksX0_laySigns_2 : cX0_laySigns.data.toList.drop 47 = dktX0_laySigns_2 := dk_seg dksX0_laySigns_1 23 rfl rfl
theorem dksX0_laySigns_3 : cX0_laySigns.data.toList.drop 70 = dktX0_laySigns_3 := dk_seg dksX0_laySigns_2 23 rfl rfl
theorem dksX0_laySigns_4 : cX0_laySigns.data.toList.drop 94 = dktX0_laySigns_4 := dk_seg dksX0_laySigns_3 24 rfl rfl
theorem dksX0_laySigns_5 : cX0_laySigns.data.toList.drop 117 = dktX0_laySigns_5 := dk_seg dksX0_laySigns_4 23 rfl rfl
theorem dksX0_laySigns_6 : cX0_laySigns.data.toList.drop 141 = dktX0_laySigns_6 := dk_seg dksX0_laySigns_5 24 rfl rfl
theorem dX0_laySigns_0 : decode cX0_laySigns 0 = .ok (.iconst 0, 1) := dk_3 (dk_at dksX0_laySigns_0 0 rfl rfl)
theorem dX0_laySigns_1 : decode cX0_laySigns 1 = .ok (.istore_n 2, 1) := dk_61 (dk_at dksX0_laySigns_0 1 rfl rfl)
theorem dX0_laySigns_2 : decode cX0_laySigns 2 = .ok (.iload_n 2, 1) := dk_28 (dk_at dksX0_laySigns_0 2 rfl rfl)
theorem dX0_laySigns_3 : decode cX0_laySigns 3 = .ok (.aload_n 0, 1) := dk_42 (dk_at dksX0_laySigns_0 3 rfl rfl)
theorem dX0_laySigns_4 : decode cX0_laySigns 4 = .ok (.getfield 9, 3) := dk_180 0 9 (dk_at dksX0_laySigns_0 4 rfl rfl)
theorem dX0_laySigns_7 : decode cX0_laySigns 7 = .ok (.if_icmp .ge 16, 3) := dk_162 0 16 (dk_at dksX0_laySigns_0 7 rfl rfl)
theorem dX0_laySigns_10 : decode cX0_laySigns 10 = .ok (.aload_n 0, 1) := dk_42 (dk_at dksX0_laySigns_0 10 rfl rfl)
theorem dX0_laySigns_11 : decode cX0_laySigns 11 = .ok (.getfield 22, 3) := dk_180 0 22 (dk_at dksX0_laySigns_0 11 rfl rfl)
theorem dX0_laySigns_14 : decode cX0_laySigns 14 = .ok (.iload_n 2, 1) := dk_28 (dk_at dksX0_laySigns_0 14 rfl rfl)
theorem dX0_laySigns_15 : decode cX0_laySigns 15 = .ok (.iload_n 2, 1) := dk_28 (dk_at dksX0_laySigns_0 15 rfl rfl)
theorem dX0_laySigns_16 : decode cX0_laySigns 16 = .ok (.iastore, 1) := dk_79 (dk_at dksX0_laySigns_0 16 rfl rfl)
theorem dX0_laySigns_17 : decode cX0_laySigns 17 = .ok (.iinc 2 1, 3) := dk_132 2 1 (dk_at dksX0_laySigns_0 17 rfl rfl)
theorem dX0_laySigns_20 : decode cX0_laySigns 20 = .ok (.goto (-18), 3) := dk_167 255 238 (dk_at dksX0_laySigns_0 20 rfl rfl)
theorem dX0_laySigns_23 : decode cX0_laySigns 23 = .ok (.iconst 1, 1) := dk_4 (dk_at dksX0_laySigns_0 23 rfl rfl)
theorem dX0_laySigns_24 : decode cX0_laySigns 24 = .ok (.istore_n 2, 1) := dk_61 (dk_at dksX0_laySigns_1 0 rfl rfl)
theorem dX0_laySigns_25 : decode cX0_laySigns 25 = .ok (.iload_n 2, 1) := dk_28 (dk_at dksX0_laySigns_1 1 rfl rfl)
theorem dX0_laySigns_26 : decode cX0_laySigns 26 = .ok (.ifCond .eq 94, 3) := dk_153 0 94 (dk_at dksX0_laySigns_1 2 rfl rfl)
theorem dX0_laySigns_29 : decode cX0_laySigns 29 = .ok (.iconst 0, 1) := dk_3 (dk_at dksX0_laySigns_1 5 rfl rfl)
theorem dX0_laySigns_30 : decode cX0_laySigns 30 = .ok (.istore_n 2, 1) := dk_61 (dk_at dksX0_laySigns_1 6 rfl rfl)
theorem dX0_laySigns_31 : decode cX0_laySigns 31 = .ok (.iconst 0, 1) := dk_3 (dk_at dksX0_laySigns_1 7 rfl rfl)
theorem dX0_laySigns_32 : decode cX0_laySigns 32 = .ok (.istore_n 3, 1) := dk_62 (dk_at dksX0_laySigns_1 8 rfl rfl)
theorem dX0_laySigns_33 : decode cX0_laySigns 33 = .ok (.iload_n 3, 1) := dk_29 (dk_at dksX0_laySigns_1 9 rfl rfl)
theorem dX0_laySigns_34 : decode cX0_laySigns 34 = .ok (.aload_n 0, 1) := dk_42 (dk_at dksX0_laySigns_1 10 rfl rfl)
theorem dX0_laySigns_35 : decode cX0_laySigns 35 = .ok (.getfield 9, 3) := dk_180 0 9 (dk_at dksX0_laySigns_1 11 rfl rfl)
theorem dX0_laySigns_38 : decode cX0_laySigns 38 = .ok (.if_icmp .ge 79, 3) := dk_162 0 79 (dk_at dksX0_laySigns_1 14 rfl rfl)
theorem dX0_laySigns_41 : decode cX0_laySigns 41 = .ok (.iconst 0, 1) := dk_3 (dk_at dksX0_laySigns_1 17 rfl rfl)
theorem dX0_laySigns_42 : decode cX0_laySigns 42 = .ok (.istore 4, 2) := dk_54 4 (dk_at dksX0_laySigns_1 18 rfl rfl)
theorem dX0_laySigns_44 : decode cX0_laySigns 44 = .ok (.iload 4, 2) := dk_21 4 (dk_at dksX0_laySigns_1 20 rfl rfl)
theorem dX0_laySigns_46 : decode cX0_laySigns 46 = .ok (.aload_n 0, 1) := dk_42 (dk_at dksX0_laySigns_1 22 rfl rfl)
theorem dX0_laySigns_47 : decode cX0_laySigns 47 = .ok (.getfield 9, 3) := dk_180 0 9 (dk_at dksX0_laySigns_2 0 rfl rfl)
theorem dX0_laySigns_50 : decode cX0_laySigns 50 = .ok (.if_icmp .ge 61, 3) := dk_162 0 61 (dk_at dksX0_laySigns_2 3 rfl rfl)
theorem dX0_laySigns_53 : decode cX0_laySigns 53 = .ok (.aload_n 0, 1) := dk_42 (dk_at dksX0_laySigns_2 6 rfl rfl)
theorem dX0_laySigns_54 : decode cX0_laySigns 54 = .ok (.getfield 22, 3) := dk_180 0 22 (dk_at dksX0_laySigns_2 7 rfl rfl)
theorem dX0_laySigns_57 : decode cX0_laySigns 57 = .ok (.iload 4, 2) := dk_21 4 (dk_at dksX0_laySigns_2 10 rfl rfl)
theorem dX0_laySigns_59 : decode cX0_laySigns 59 = .ok (.iaload, 1) := dk_46 (dk_at dksX0_laySigns_2 12 rfl rfl)
theorem dX0_laySigns_60 : decode cX0_laySigns 60 = .ok (.aload_n 0, 1) := dk_42 (dk_at dksX0_laySigns_2 13 rfl rfl)
theorem dX0_laySigns_61 : decode cX0_laySigns 61 = .ok (.getfield 22, 3) := dk_180 0 22 (dk_at dksX0_laySigns_2 14 rfl rfl)
theorem dX0_laySigns_64 : decode cX0_laySigns 64 = .ok (.iload_n 3, 1) := dk_29 (dk_at dksX0_laySigns_2 17 rfl rfl)
theorem dX0_laySigns_65 : decode cX0_laySigns 65 = .ok (.iaload, 1) := dk_46 (dk_at dksX0_laySigns_2 18 rfl rfl)
theorem dX0_laySigns_66 : decode cX0_laySigns 66 = .ok (.if_icmp .ge 39, 3) := dk_162 0 39 (dk_at dksX0_laySigns_2 19 rfl rfl)
theorem dX0_laySigns_69 : decode cX0_laySigns 69 = .ok (.aload_n 0, 1) := dk_42 (dk_at dksX0_laySigns_2 22 rfl rfl)
theorem dX0_laySigns_70 : decode cX0_laySigns 70 = .ok (.getfield 13, 3) := dk_180 0 13 (dk_at dksX0_laySigns_3 0 rfl rfl)
theorem dX0_laySigns_73 : decode cX0_laySigns 73 = .ok (.iload_n 3, 1) := dk_29 (dk_at dksX0_laySigns_3 3 rfl rfl)
theorem dX0_laySigns_74 : decode cX0_laySigns 74 = .ok (.iaload, 1) := dk_46 (dk_at dksX0_laySigns_3 4 rfl rfl)
theorem dX0_laySigns_75 : decode cX0_laySigns 75 = .ok (.aload_n 0, 1) := dk_42 (dk_at dksX0_laySigns_3 5 rfl rfl)
theorem dX0_laySigns_76 : decode cX0_laySigns 76 = .ok (.getfield 13, 3) := dk_180 0 13 (dk_at dksX0_laySigns_3 6 rfl rfl)
theorem dX0_laySigns_79 : decode cX0_laySigns 79 = .ok (.iload 4, 2) := dk_21 4 (dk_at dksX0_laySigns_3 9 rfl rfl)
theorem dX0_laySigns_81 : decode cX0_laySigns 81 = .ok (.iaload, 1) := dk_46 (dk_at dksX0_laySigns_3 11 rfl rfl)
theorem dX0_laySigns_82 : decode cX0_laySigns 82 = .ok (.ixor, 1) := dk_130 (dk_at dksX0_laySigns_3 12 rfl rfl)
theorem dX0_laySigns_83 : decode cX0_laySigns 83 = .ok (.invokestatic 25, 3) := dk_184 0 25 (dk_at dksX0_laySigns_3 13 rfl rfl)
theorem dX0_laySigns_86 : decode cX0_laySigns 86 = .ok (.iload_n 1, 1) := dk_27 (dk_at dksX0_laySigns_3 16 rfl rfl)
theorem dX0_laySigns_87 : decode cX0_laySigns 87 = .ok (.if_icmp .gt 18, 3) := dk_163 0 18 (dk_at dksX0_laySigns_3 17 rfl rfl)
theorem dX0_laySigns_90 : decode cX0_laySigns 90 = .ok (.aload_n 0, 1) := dk_42 (dk_at dksX0_laySigns_3 20 rfl rfl)
theorem dX0_laySigns_91 : decode cX0_laySigns 91 = .ok (.getfield 22, 3) := dk_180 0 22 (dk_at dksX0_laySigns_3 21 rfl rfl)
theorem dX0_laySigns_94 : decode cX0_laySigns 94 = .ok (.iload_n 3, 1) := dk_29 (dk_at dksX0_laySigns_4 0 rfl rfl)
theorem dX0_laySigns_95 : decode cX0_laySigns 95 = .ok (.aload_n 0, 1) := dk_42 (dk_at dksX0_laySigns_4 1 rfl rfl)
theorem dX0_laySigns_96 : decode cX0_laySigns 96 = .ok (.getfield 22, 3) := dk_180 0 22 (dk_at dksX0_laySigns_4 2 rfl rfl)
theorem dX0_laySigns_99 : decode cX0_laySigns 99 = .ok (.iload 4, 2) := dk_21 4 (dk_at dksX0_laySigns_4 5 rfl rfl)
theorem dX0_laySigns_101 : decode cX0_laySigns 101 = .ok (.iaload, 1) := dk_46 (dk_at dksX0_laySigns_4 7 rfl rfl)
theorem dX0_laySigns_102 : decode cX0_laySigns 102 = .ok (.iastore, 1) := dk_79 (dk_at dksX0_laySigns_4 8 rfl rfl)
theorem dX0_laySigns_103 : decode cX0_laySigns 103 = .ok (.iconst 1, 1) := dk_4 (dk_at dksX0_laySigns_4 9 rfl rfl)
theorem dX0_laySigns_104 : decode cX0_laySigns 104 = .ok (.istore_n 2, 1) := dk_61 (dk_at dksX0_laySigns_4 10 rfl rfl)
theorem dX0_laySigns_105 : decode cX0_laySigns 105 = .ok (.iinc 4 1, 3) := dk_132 4 1 (dk_at dksX0_laySigns_4 11 rfl rfl)
theorem dX0_laySigns_108 : decode cX0_laySigns 108 = .ok (.goto (-64), 3) := dk_167 255 192 (dk_at dksX0_laySigns_4 14 rfl rfl)
theorem dX0_laySigns_111 : decode cX0_laySigns 111 = .ok (.iinc 3 1, 3) := dk_132 3 1 (dk_at dksX0_laySigns_4 17 rfl rfl)
theorem dX0_laySigns_114 : decode cX0_laySigns 114 = .ok (.goto (-81), 3) := dk_167 255 175 (dk_at dksX0_laySigns_4 20 rfl rfl)
theorem dX0_laySigns_117 : decode cX0_laySigns 117 = .ok (.goto (-92), 3) := dk_167 255 164 (dk_at dksX0_laySigns_5 0 rfl rfl)
theorem dX0_laySigns_120 : decode cX0_laySigns 120 = .ok (.iconst 0, 1) := dk_3 (dk_at dksX0_laySigns_5 3 rfl rfl)
theorem dX0_laySigns_121 : decode cX0_laySigns 121 = .ok (.istore_n 3, 1) := dk_62 (dk_at dksX0_laySigns_5 4 rfl rfl)
theorem dX0_laySigns_122 : decode cX0_laySigns 122 = .ok (.iconst 0, 1) := dk_3 (dk_at dksX0_laySigns_5 5 rfl rfl)
theorem dX0_laySigns_123 : decode cX0_laySigns 123 = .ok (.istore 4, 2) := dk_54 4 (dk_at dksX0_laySigns_5 6 rfl rfl)
theorem dX0_laySigns_125 : decode cX0_laySigns 125 = .ok (.iload 4, 2) := dk_21 4 (dk_at dksX0_laySigns_5 8 rfl rfl)
theorem dX0_laySigns_127 : decode cX0_laySigns 127 = .ok (.aload_n 0, 1) := dk_42 (dk_at dksX0_laySigns_5 10 rfl rfl)
theorem dX0_laySigns_128 : decode cX0_laySigns 128 = .ok (.getfield 9, 3) := dk_180 0 9 (dk_at dksX0_laySigns_5 11 rfl rfl)
theorem dX0_laySigns_131 : decode cX0_laySigns 131 = .ok (.if_icmp .ge 29, 3) := dk_162 0 29 (dk_at dksX0_laySigns_5 14 rfl rfl)
theorem dX0_laySigns_134 : decode cX0_laySigns 134 = .ok (.iload_n 3, 1) := dk_29 (dk_at dksX0_laySigns_5 17 rfl rfl)
theorem dX0_laySigns_135 : decode cX0_laySigns 135 = .ok (.aload_n 0, 1) := dk_42 (dk_at dksX0_laySigns_5 18 rfl rfl)
theorem dX0_laySigns_136 : decode cX0_laySigns 136 = .ok (.getfield 22, 3) := dk_180 0 22 (dk_at dksX0_laySigns_5 19 rfl rfl)
theorem dX0_laySigns_139 : decode cX0_laySigns 139 = .ok (.iload 4, 2) := dk_21 4 (dk_at dksX0_laySigns_5 22 rfl rfl)
theorem dX0_laySigns_141 : decode cX0_laySigns 141 = .ok (.iaload, 1) := dk_46 (dk_at dksX0_laySigns_6 0 rfl rfl)
theorem dX0_laySigns_142 : decode cX0_laySigns 142 = .ok (.iload 4, 2) := dk_21 4 (dk_at dksX0_laySigns_6 1 rfl rfl)
theorem dX0_laySigns_144 : decode cX0_laySigns 144 = .ok (.if_icmp .ne 7, 3) := dk_160 0 7 (dk_at dksX0_laySigns_6 3 rfl rfl)
theorem dX0_laySigns_147 : decode cX0_laySigns 147 = .ok (.iconst 1, 1) := dk_4 (dk_at dksX0_laySigns_6 6 rfl rfl)
theorem dX0_laySigns_148 : decode cX0_laySigns 148 = .ok (.goto 4, 3) := dk_167 0 4 (dk_at dksX0_laySigns_6 7 rfl rfl)
theorem dX0_laySigns_151 : decode cX0_laySigns 151 = .ok (.iconst 0, 1) := dk_3 (dk_at dksX0_laySigns_6 10 rfl rfl)
theorem dX0_laySigns_152 : decode cX0_laySigns 152 = .ok (.iadd, 1) := dk_96 (dk_at dksX0_laySigns_6 11 rfl rfl)
theorem dX0_laySigns_153 : decode cX0_laySigns 153 = .ok (.istore_n 3, 1) := dk_62 (dk_at dksX0_laySigns_6 12 rfl rfl)
theorem dX0_laySigns_154 : decode cX0_laySigns 154 = .ok (.iinc 4 1, 3) := dk_132 4 1 (dk_at dksX0_laySigns_6 13 rfl rfl)
theorem dX0_laySigns_157 : decode cX0_laySigns 157 = .ok (.goto (-32), 3) := dk_167 255 224 (dk_at dksX0_laySigns_6 16 rfl rfl)
theorem dX0_laySigns_160 : decode cX0_laySigns 160 = .ok (.iload_n 3, 1) := dk_29 (dk_at dksX0_laySigns_6 19 rfl rfl)
theorem dX0_laySigns_161 : decode cX0_laySigns 161 = .ok (.ireturn, 1) := dk_172 (dk_at dksX0_laySigns_6 20 rfl rfl)
abbrev cX0_signs : ByteArray := prog_1_method_10_code
def yX0_signs : MethodName := ⟨RX0, "signs", "(I)I"⟩
def dkwX0_signs_6 : List UInt8 := [182, 0, 47, 172]
abbrev dktX0_signs_6 : List UInt8 := dkwX0_signs_6 ++ []
def dkwX0_signs_5 : List UInt8 := [167, 0, 27, 27, 5, 160, 0, 7, 29, 167, 0, 18, 29, 16, 252, 160, 0, 7, 3, 167, 0, 8, 42, 29]
abbrev dktX0_signs_5 : List UInt8 := dkwX0_signs_5 ++ dktX0_signs_6
def dkwX0_signs_4 : List UInt8 := [182, 0, 47, 164, 0, 8, 21, 4, 167, 0, 4, 29, 62, 132, 4, 1, 167, 255, 208, 27, 154, 0, 7, 28]
abbrev dktX0_signs_4 : List UInt8 := dkwX0_signs_4 ++ dktX0_signs_5
def dkwX0_signs_3 : List UInt8 := [21, 4, 182, 0, 44, 153, 0, 28, 29, 16, 252, 159, 0, 17, 42, 21, 4, 182, 0, 47, 42, 29]
abbrev dktX0_signs_3 : List UInt8 := dkwX0_signs_3 ++ dktX0_signs_4
def dkwX0_signs_2 : List UInt8 := [42, 180, 0, 19, 182, 0, 31, 61, 16, 252, 62, 3, 54, 4, 21, 4, 42, 180, 0, 9, 162, 0, 45, 42]
abbrev dktX0_signs_2 : List UInt8 := dkwX0_signs_2 ++ dktX0_signs_3
def dkwX0_signs_1 : List UInt8 := [180, 0, 9, 158, 0, 18, 42, 28, 182, 0, 31, 4, 164, 0, 9, 132, 2, 1, 167, 255, 237, 28, 172, 42]
abbrev dktX0_signs_1 : List UInt8 := dkwX0_signs_1 ++ dktX0_signs_2
def dkwX0_signs_0 : List UInt8 := [27, 133, 9, 20, 0, 42, 184, 0, 5, 154, 0, 5, 2, 172, 27, 6, 160, 0, 29, 3, 61, 42]
abbrev dktX0_signs_0 : List UInt8 := dkwX0_signs_0 ++ dktX0_signs_1
theorem dksX0_signs_0 : cX0_signs.data.toList.drop 0 = dktX0_signs_0 := by decide +kernel
theorem dksX0_signs_1 : cX0_signs.data.toList.drop 22 = dktX0_signs_1 := dk_seg dksX0_signs_0 22 rfl rfl
theorem dksX0_signs_2 : cX0_signs.data.toList.drop 46 = dktX0_signs_2 := dk_seg dksX0_signs_1 24 rfl rfl
theorem dksX0_signs_3 : cX0_signs.data.toList.drop 70 = dktX0_signs_3 := dk_seg dksX0_signs_2 24 rfl rfl
theorem dksX0_signs_4 : cX0_signs.data.toList.drop 92 = dktX0_signs_4 := dk_seg dksX0_signs_3 22 rfl rfl
theorem dksX0_signs_5 : cX0_signs.data.toList.drop 116 = dktX0_signs_5 := dk_seg dksX0_signs_4 24 rfl rfl
theorem dksX0_signs_6 : cX0_signs.data.toList.drop 140 = dktX0_signs_6 := dk_seg dksX0_signs_5 24 rfl rfl
theorem dX0_signs_0 : decode cX0_signs 0 = .ok (.iload_n 1, 1) := dk_27 (dk_at dksX0_signs_0 0 rfl rfl)
theorem dX0_signs_1 : decode cX0_signs 1 = .ok (.i2l, 1) := dk_133 (dk_at dksX0_signs_0 1 rfl rfl)
theorem dX0_signs_2 : decode cX0_signs 2 = .ok (.lconst 0, 1) := dk_9 (dk_at dksX0_signs_0 2 rfl rfl)
theorem dX0_signs_3 : decode cX0_signs 3 = .ok (.ldc2_w 42, 3) := dk_20 0 42 (dk_at dksX0_signs_0 3 rfl rfl)
theorem dX0_signs_6 : decode cX0_signs 6 = .ok (.invokestatic 5, 3) := dk_184 0 5 (dk_at dksX0_signs_0 6 rfl rfl)
theorem dX0_signs_9 : decode cX0_signs 9 = .ok (.ifCond .ne 5, 3) := dk_154 0 5 (dk_at dksX0_signs_0 9 rfl rfl)
theorem dX0_signs_12 : decode cX0_signs 12 = .ok (.iconst (-1), 1) := dk_2 (dk_at dksX0_signs_0 12 rfl rfl)
theorem dX0_signs_13 : decode cX0_signs 13 = .ok (.ireturn, 1) := dk_172 (dk_at dksX0_signs_0 13 rfl rfl)
theorem dX0_signs_14 : decode cX0_signs 14 = .ok (.iload_n 1, 1) := dk_27 (dk_at dksX0_signs_0 14 rfl rfl)
theorem dX0_signs_15 : decode cX0_signs 15 = .ok (.iconst 3, 1) := dk_6 (dk_at dksX0_signs_0 15 rfl rfl)
theorem dX0_signs_16 : decode cX0_signs 16 = .ok (.if_icmp .ne 29, 3) := dk_160 0 29 (dk_at dksX0_signs_0 16 rfl rfl)
theorem dX0_signs_19 : decode cX0_signs 19 = .ok (.iconst 0, 1) := dk_3 (dk_at dksX0_signs_0 19 rfl rfl)
theorem dX0_signs_20 : decode cX0_signs 20 = .ok (.istore_n 2, 1) := dk_61 (dk_at dksX0_signs_0 20 rfl rfl)
theorem dX0_signs_21 : decode cX0_signs 21 = .ok (.aload_n 0, 1) := dk_42 (dk_at dksX0_signs_0 21 rfl rfl)
theorem dX0_signs_22 : decode cX0_signs 22 = .ok (.getfield 9, 3) := dk_180 0 9 (dk_at dksX0_signs_1 0 rfl rfl)
theorem dX0_signs_25 : decode cX0_signs 25 = .ok (.ifCond .le 18, 3) := dk_158 0 18 (dk_at dksX0_signs_1 3 rfl rfl)
theorem dX0_signs_28 : decode cX0_signs 28 = .ok (.aload_n 0, 1) := dk_42 (dk_at dksX0_signs_1 6 rfl rfl)
theorem dX0_signs_29 : decode cX0_signs 29 = .ok (.iload_n 2, 1) := dk_28 (dk_at dksX0_signs_1 7 rfl rfl)
theorem dX0_signs_30 : decode cX0_signs 30 = .ok (.invokevirtual 31, 3) := dk_182 0 31 (dk_at dksX0_signs_1 8 rfl rfl)
theorem dX0_signs_33 : decode cX0_signs 33 = .ok (.iconst 1, 1) := dk_4 (dk_at dksX0_signs_1 11 rfl rfl)
theorem dX0_signs_34 : decode cX0_signs 34 = .ok (.if_icmp .le 9, 3) := dk_164 0 9 (dk_at dksX0_signs_1 12 rfl rfl)
theorem dX0_signs_37 : decode cX0_signs 37 = .ok (.iinc 2 1, 3) := dk_132 2 1 (dk_at dksX0_signs_1 15 rfl rfl)
theorem dX0_signs_40 : decode cX0_signs 40 = .ok (.goto (-19), 3) := dk_167 255 237 (dk_at dksX0_signs_1 18 rfl rfl)
theorem dX0_signs_43 : decode cX0_signs 43 = .ok (.iload_n 2, 1) := dk_28 (dk_at dksX0_signs_1 21 rfl rfl)
theorem dX0_signs_44 : decode cX0_signs 44 = .ok (.ireturn, 1) := dk_172 (dk_at dksX0_signs_1 22 rfl rfl)
theorem dX0_signs_45 : decode cX0_signs 45 = .ok (.aload_n 0, 1) := dk_42 (dk_at dksX0_signs_1 23 rfl rfl)
theorem dX0_signs_46 : decode cX0_signs 46 = .ok (.aload_n 0, 1) := dk_42 (dk_at dksX0_signs_2 0 rfl rfl)
theorem dX0_signs_47 : decode cX0_signs 47 = .ok (.getfield 19, 3) := dk_180 0 19 (dk_at dksX0_signs_2 1 rfl rfl)
theorem dX0_signs_50 : decode cX0_signs 50 = .ok (.invokevirtual 31, 3) := dk_182 0 31 (dk_at dksX0_signs_2 4 rfl rfl)
theorem dX0_signs_53 : decode cX0_signs 53 = .ok (.istore_n 2, 1) := dk_61 (dk_at dksX0_signs_2 7 rfl rfl)
theorem dX0_signs_54 : decode cX0_signs 54 = .ok (.bipush (-4), 2) := dk_16 252 (dk_at dksX0_signs_2 8 rfl rfl)
theorem dX0_signs_56 : decode cX0_signs 56 = .ok (.istore_n 3, 1) := dk_62 (dk_at dksX0_signs_2 10 rfl rfl)
theorem dX0_signs_57 : decode cX0_signs 57 = .ok (.iconst 0, 1) := dk_3 (dk_at dksX0_signs_2 11 rfl rfl)
theorem dX0_signs_58 : decode cX0_signs 58 = .ok (.istore 4, 2) := dk_54 4 (dk_at dksX0_signs_2 12 rfl rfl)
theorem dX0_signs_60 : decode cX0_signs 60 = .ok (.iload 4, 2) := dk_21 4 (dk_at dksX0_signs_2 14 rfl rfl)
theorem dX0_signs_62 : decode cX0_signs 62 = .ok (.aload_n 0, 1) := dk_42 (dk_at dksX0_signs_2 16 rfl rfl)
theorem dX0_signs_63 : decode cX0_signs 63 = .ok (.getfield 9, 3) := dk_180 0 9 (dk_at dksX0_signs_2 17 rfl rfl)
theorem dX0_signs_66 : decode cX0_signs 66 = .ok (.if_icmp .ge 45, 3) := dk_162 0 45 (dk_at dksX0_signs_2 20 rfl rfl)
theorem dX0_signs_69 : decode cX0_signs 69 = .ok (.aload_n 0, 1) := dk_42 (dk_at dksX0_signs_2 23 rfl rfl)
theorem dX0_signs_70 : decode cX0_signs 70 = .ok (.iload 4, 2) := dk_21 4 (dk_at dksX0_signs_3 0 rfl rfl)
theorem dX0_signs_72 : decode cX0_signs 72 = .ok (.invokevirtual 44, 3) := dk_182 0 44 (dk_at dksX0_signs_3 2 rfl rfl)
theorem dX0_signs_75 : decode cX0_signs 75 = .ok (.ifCond .eq 28, 3) := dk_153 0 28 (dk_at dksX0_signs_3 5 rfl rfl)
theorem dX0_signs_78 : decode cX0_signs 78 = .ok (.iload_n 3, 1) := dk_29 (dk_at dksX0_signs_3 8 rfl rfl)
theorem dX0_signs_79 : decode cX0_signs 79 = .ok (.bipush (-4), 2) := dk_16 252 (dk_at dksX0_signs_3 9 rfl rfl)
theorem dX0_signs_81 : decode cX0_signs 81 = .ok (.if_icmp .eq 17, 3) := dk_159 0 17 (dk_at dksX0_signs_3 11 rfl rfl)
theorem dX0_signs_84 : decode cX0_signs 84 = .ok (.aload_n 0, 1) := dk_42 (dk_at dksX0_signs_3 14 rfl rfl)
theorem dX0_signs_85 : decode cX0_signs 85 = .ok (.iload 4, 2) := dk_21 4 (dk_at dksX0_signs_3 15 rfl rfl)
theorem dX0_signs_87 : decode cX0_signs 87 = .ok (.invokevirtual 47, 3) := dk_182 0 47 (dk_at dksX0_signs_3 17 rfl rfl)
theorem dX0_signs_90 : decode cX0_signs 90 = .ok (.aload_n 0, 1) := dk_42 (dk_at dksX0_signs_3 20 rfl rfl)
theorem dX0_signs_91 : decode cX0_signs 91 = .ok (.iload_n 3, 1) := dk_29 (dk_at dksX0_signs_3 21 rfl rfl)
theorem dX0_signs_92 : decode cX0_signs 92 = .ok (.invokevirtual 47, 3) := dk_182 0 47 (dk_at dksX0_signs_4 0 rfl rfl)
theorem dX0_signs_95 : decode cX0_signs 95 = .ok (.if_icmp .le 8, 3) := dk_164 0 8 (dk_at dksX0_signs_4 3 rfl rfl)
theorem dX0_signs_98 : decode cX0_signs 98 = .ok (.iload 4, 2) := dk_21 4 (dk_at dksX0_signs_4 6 rfl rfl)
theorem dX0_signs_100 : decode cX0_signs 100 = .ok (.goto 4, 3) := dk_167 0 4 (dk_at dksX0_signs_4 8 rfl rfl)
theorem dX0_signs_103 : decode cX0_signs 103 = .ok (.iload_n 3, 1) := dk_29 (dk_at dksX0_signs_4 11 rfl rfl)
theorem dX0_signs_104 : decode cX0_signs 104 = .ok (.istore_n 3, 1) := dk_62 (dk_at dksX0_signs_4 12 rfl rfl)
theorem dX0_signs_105 : decode cX0_signs 105 = .ok (.iinc 4 1, 3) := dk_132 4 1 (dk_at dksX0_signs_4 13 rfl rfl)
theorem dX0_signs_108 : decode cX0_signs 108 = .ok (.goto (-48), 3) := dk_167 255 208 (dk_at dksX0_signs_4 16 rfl rfl)
theorem dX0_signs_111 : decode cX0_signs 111 = .ok (.iload_n 1, 1) := dk_27 (dk_at dksX0_signs_4 19 rfl rfl)
theorem dX0_signs_112 : decode cX0_signs 112 = .ok (.ifCond .ne 7, 3) := dk_154 0 7 (dk_at dksX0_signs_4 20 rfl rfl)
theorem dX0_signs_115 : decode cX0_signs 115 = .ok (.iload_n 2, 1) := dk_28 (dk_at dksX0_signs_4 23 rfl rfl)
theorem dX0_signs_116 : decode cX0_signs 116 = .ok (.goto 27, 3) := dk_167 0 27 (dk_at dksX0_signs_5 0 rfl rfl)
theorem dX0_signs_119 : decode cX0_signs 119 = .ok (.iload_n 1, 1) := dk_27 (dk_at dksX0_signs_5 3 rfl rfl)
theorem dX0_signs_120 : decode cX0_signs 120 = .ok (.iconst 2, 1) := dk_5 (dk_at dksX0_signs_5 4 rfl rfl)
theorem dX0_signs_121 : decode cX0_signs 121 = .ok (.if_icmp .ne 7, 3) := dk_160 0 7 (dk_at dksX0_signs_5 5 rfl rfl)
theorem dX0_signs_124 : decode cX0_signs 124 = .ok (.iload_n 3, 1) := dk_29 (dk_at dksX0_signs_5 8 rfl rfl)
theorem dX0_signs_125 : decode cX0_signs 125 = .ok (.goto 18, 3) := dk_167 0 18 (dk_at dksX0_signs_5 9 rfl rfl)
theorem dX0_signs_128 : decode cX0_signs 128 = .ok (.iload_n 3, 1) := dk_29 (dk_at dksX0_signs_5 12 rfl rfl)
theorem dX0_signs_129 : decode cX0_signs 129 = .ok (.bipush (-4), 2) := dk_16 252 (dk_at dksX0_signs_5 13 rfl rfl)
theorem dX0_signs_131 : decode cX0_signs 131 = .ok (.if_icmp .ne 7, 3) := dk_160 0 7 (dk_at dksX0_signs_5 15 rfl rfl)
theorem dX0_signs_134 : decode cX0_signs 134 = .ok (.iconst 0, 1) := dk_3 (dk_at dksX0_signs_5 18 rfl rfl)
theorem dX0_signs_135 : decode cX0_signs 135 = .ok (.goto 8, 3) := dk_167 0 8 (dk_at dksX0_signs_5 19 rfl rfl)
theorem dX0_signs_138 : decode cX0_signs 138 = .ok (.aload_n 0, 1) := dk_42 (dk_at dksX0_signs_5 22 rfl rfl)
theorem dX0_signs_139 : decode cX0_signs 139 = .ok (.iload_n 3, 1) := dk_29 (dk_at dksX0_signs_5 23 rfl rfl)
theorem dX0_signs_140 : decode cX0_signs 140 = .ok (.invokevirtual 47, 3) := dk_182 0 47 (dk_at dksX0_signs_6 0 rfl rfl)
theorem dX0_signs_143 : decode cX0_signs 143 = .ok (.ireturn, 1) := dk_172 (dk_at dksX0_signs_6 3 rfl rfl)
abbrev cX0_isSign : ByteArray := prog_1_method_8_code
def yX0_isSign : MethodName := ⟨RX0, "isSign", "(I)Z"⟩
def dkwX0_isSign_0 : List UInt8 := [42, 27, 182, 0, 34, 153, 0, 17, 42, 180, 0, 22, 27, 46, 27, 160, 0, 7, 4, 167, 0, 4, 3, 172]
abbrev dktX0_isSign_0 : List UInt8 := dkwX0_isSign_0 ++ []
theorem dksX0_isSign_0 : cX0_isSign.data.toList.drop 0 = dktX0_isSign_0 := by decide +kernel
theorem dX0_isSign_0 : decode cX0_isSign 0 = .ok (.aload_n 0, 1) := dk_42 (dk_at dksX0_isSign_0 0 rfl rfl)
theorem dX0_isSign_1 : decode cX0_isSign 1 = .ok (.iload_n 1, 1) := dk_27 (dk_at dksX0_isSign_0 1 rfl rfl)
theorem dX0_isSign_2 : decode cX0_isSign 2 = .ok (.invokevirtual 34, 3) := dk_182 0 34 (dk_at dksX0_isSign_0 2 rfl rfl)
theorem dX0_isSign_5 : decode cX0_isSign 5 = .ok (.ifCond .eq 17, 3) := dk_153 0 17 (dk_at dksX0_isSign_0 5 rfl rfl)
theorem dX0_isSign_8 : decode cX0_isSign 8 = .ok (.aload_n 0, 1) := dk_42 (dk_at dksX0_isSign_0 8 rfl rfl)
theorem dX0_isSign_9 : decode cX0_isSign 9 = .ok (.getfield 22, 3) := dk_180 0 22 (dk_at dksX0_isSign_0 9 rfl rfl)
theorem dX0_isSign_12 : decode cX0_isSign 12 = .ok (.iload_n 1, 1) := dk_27 (dk_at dksX0_isSign_0 12 rfl rfl)
theorem dX0_isSign_13 : decode cX0_isSign 13 = .ok (.iaload, 1) := dk_46 (dk_at dksX0_isSign_0 13 rfl rfl)
theorem dX0_isSign_14 : decode cX0_isSign 14 = .ok (.iload_n 1, 1) := dk_27 (dk_at dksX0_isSign_0 14 rfl rfl)
theorem dX0_isSign_15 : decode cX0_isSign 15 = .ok (.if_icmp .ne 7, 3) := dk_160 0 7 (dk_at dksX0_isSign_0 15 rfl rfl)
theorem dX0_isSign_18 : decode cX0_isSign 18 = .ok (.iconst 1, 1) := dk_4 (dk_at dksX0_isSign_0 18 rfl rfl)
theorem dX0_isSign_19 : decode cX0_isSign 19 = .ok (.goto 4, 3) := dk_167 0 4 (dk_at dksX0_isSign_0 19 rfl rfl)
theorem dX0_isSign_22 : decode cX0_isSign 22 = .ok (.iconst 0, 1) := dk_3 (dk_at dksX0_isSign_0 22 rfl rfl)
theorem dX0_isSign_23 : decode cX0_isSign 23 = .ok (.ireturn, 1) := dk_172 (dk_at dksX0_isSign_0 23 rfl rfl)
abbrev cX0_sizeOf : ByteArray := prog_1_method_9_code
def yX0_sizeOf : MethodName := ⟨RX0, "sizeOf", "(I)I"⟩
def dkwX0_sizeOf_1 : List UInt8 := [167, 0, 4, 3, 96, 61, 132, 3, 1, 167, 255, 227, 28, 172]
abbrev dktX0_sizeOf_1 : List UInt8 := dkwX0_sizeOf_1 ++ []
def dkwX0_sizeOf_0 : List UInt8 := [3, 61, 3, 62, 29, 42, 180, 0, 9, 162, 0, 27, 28, 42, 180, 0, 22, 29, 46, 27, 160, 0, 7, 4]
abbrev dktX0_sizeOf_0 : List UInt8 := dkwX0_sizeOf_0 ++ dktX0_sizeOf_1
theorem dksX0_sizeOf_0 : cX0_sizeOf.data.toList.drop 0 = dktX0_sizeOf_0 := by decide +kernel
theorem dksX0_sizeOf_1 : cX0_sizeOf.data.toList.drop 24 = dktX0_sizeOf_1 := dk_seg dksX0_sizeOf_0 24 rfl rfl
theorem dX0_sizeOf_0 : decode cX0_sizeOf 0 = .ok (.iconst 0, 1) := dk_3 (dk_at dksX0_sizeOf_0 0 rfl rfl)
theorem dX0_sizeOf_1 : decode cX0_sizeOf 1 = .ok (.istore_n 2, 1) := dk_61 (dk_at dksX0_sizeOf_0 1 rfl rfl)
theorem dX0_sizeOf_2 : decode cX0_sizeOf 2 = .ok (.iconst 0, 1) := dk_3 (dk_at dksX0_sizeOf_0 2 rfl rfl)
theorem dX0_sizeOf_3 : decode cX0_sizeOf 3 = .ok (.istore_n 3, 1) := dk_62 (dk_at dksX0_sizeOf_0 3 rfl rfl)
theorem dX0_sizeOf_4 : decode cX0_sizeOf 4 = .ok (.iload_n 3, 1) := dk_29 (dk_at dksX0_sizeOf_0 4 rfl rfl)
theorem dX0_sizeOf_5 : decode cX0_sizeOf 5 = .ok (.aload_n 0, 1) := dk_42 (dk_at dksX0_sizeOf_0 5 rfl rfl)
theorem dX0_sizeOf_6 : decode cX0_sizeOf 6 = .ok (.getfield 9, 3) := dk_180 0 9 (dk_at dksX0_sizeOf_0 6 rfl rfl)
theorem dX0_sizeOf_9 : decode cX0_sizeOf 9 = .ok (.if_icmp .ge 27, 3) := dk_162 0 27 (dk_at dksX0_sizeOf_0 9 rfl rfl)
theorem dX0_sizeOf_12 : decode cX0_sizeOf 12 = .ok (.iload_n 2, 1) := dk_28 (dk_at dksX0_sizeOf_0 12 rfl rfl)
theorem dX0_sizeOf_13 : decode cX0_sizeOf 13 = .ok (.aload_n 0, 1) := dk_42 (dk_at dksX0_sizeOf_0 13 rfl rfl)
theorem dX0_sizeOf_14 : decode cX0_sizeOf 14 = .ok (.getfield 22, 3) := dk_180 0 22 (dk_at dksX0_sizeOf_0 14 rfl rfl)
theorem dX0_sizeOf_17 : decode cX0_sizeOf 17 = .ok (.iload_n 3, 1) := dk_29 (dk_at dksX0_sizeOf_0 17 rfl rfl)
theorem dX0_sizeOf_18 : decode cX0_sizeOf 18 = .ok (.iaload, 1) := dk_46 (dk_at dksX0_sizeOf_0 18 rfl rfl)
theorem dX0_sizeOf_19 : decode cX0_sizeOf 19 = .ok (.iload_n 1, 1) := dk_27 (dk_at dksX0_sizeOf_0 19 rfl rfl)
theorem dX0_sizeOf_20 : decode cX0_sizeOf 20 = .ok (.if_icmp .ne 7, 3) := dk_160 0 7 (dk_at dksX0_sizeOf_0 20 rfl rfl)
theorem dX0_sizeOf_23 : decode cX0_sizeOf 23 = .ok (.iconst 1, 1) := dk_4 (dk_at dksX0_sizeOf_0 23 rfl rfl)
theorem dX0_sizeOf_24 : decode cX0_sizeOf 24 = .ok (.goto 4, 3) := dk_167 0 4 (dk_at dksX0_sizeOf_1 0 rfl rfl)
theorem dX0_sizeOf_27 : decode cX0_sizeOf 27 = .ok (.iconst 0, 1) := dk_3 (dk_at dksX0_sizeOf_1 3 rfl rfl)
theorem dX0_sizeOf_28 : decode cX0_sizeOf 28 = .ok (.iadd, 1) := dk_96 (dk_at dksX0_sizeOf_1 4 rfl rfl)
theorem dX0_sizeOf_29 : decode cX0_sizeOf 29 = .ok (.istore_n 2, 1) := dk_61 (dk_at dksX0_sizeOf_1 5 rfl rfl)
theorem dX0_sizeOf_30 : decode cX0_sizeOf 30 = .ok (.iinc 3 1, 3) := dk_132 3 1 (dk_at dksX0_sizeOf_1 6 rfl rfl)
theorem dX0_sizeOf_33 : decode cX0_sizeOf 33 = .ok (.goto (-29), 3) := dk_167 255 227 (dk_at dksX0_sizeOf_1 9 rfl rfl)
theorem dX0_sizeOf_36 : decode cX0_sizeOf 36 = .ok (.iload_n 2, 1) := dk_28 (dk_at dksX0_sizeOf_1 12 rfl rfl)
theorem dX0_sizeOf_37 : decode cX0_sizeOf 37 = .ok (.ireturn, 1) := dk_172 (dk_at dksX0_sizeOf_1 13 rfl rfl)
abbrev cX0_drop : ByteArray := prog_1_method_13_code
def yX0_drop : MethodName := ⟨RX0, "drop", "()I"⟩
def dkwX0_drop_1 : List UInt8 := [172]
abbrev dktX0_drop_1 : List UInt8 := dkwX0_drop_1 ++ []
def dkwX0_drop_0 : List UInt8 := [42, 180, 0, 50, 154, 0, 6, 16, 252, 172, 42, 89, 180, 0, 50, 4, 100, 181, 0, 50, 42, 180, 0, 50]
abbrev dktX0_drop_0 : List UInt8 := dkwX0_drop_0 ++ dktX0_drop_1
theorem dksX0_drop_0 : cX0_drop.data.toList.drop 0 = dktX0_drop_0 := by decide +kernel
theorem dksX0_drop_1 : cX0_drop.data.toList.drop 24 = dktX0_drop_1 := dk_seg dksX0_drop_0 24 rfl rfl
theorem dX0_drop_0 : decode cX0_drop 0 = .ok (.aload_n 0, 1) := dk_42 (dk_at dksX0_drop_0 0 rfl rfl)
theorem dX0_drop_1 : decode cX0_drop 1 = .ok (.getfield 50, 3) := dk_180 0 50 (dk_at dksX0_drop_0 1 rfl rfl)
theorem dX0_drop_4 : decode cX0_drop 4 = .ok (.ifCond .ne 6, 3) := dk_154 0 6 (dk_at dksX0_drop_0 4 rfl rfl)
theorem dX0_drop_7 : decode cX0_drop 7 = .ok (.bipush (-4), 2) := dk_16 252 (dk_at dksX0_drop_0 7 rfl rfl)
theorem dX0_drop_9 : decode cX0_drop 9 = .ok (.ireturn, 1) := dk_172 (dk_at dksX0_drop_0 9 rfl rfl)
theorem dX0_drop_10 : decode cX0_drop 10 = .ok (.aload_n 0, 1) := dk_42 (dk_at dksX0_drop_0 10 rfl rfl)
theorem dX0_drop_11 : decode cX0_drop 11 = .ok (.dup, 1) := dk_89 (dk_at dksX0_drop_0 11 rfl rfl)
theorem dX0_drop_12 : decode cX0_drop 12 = .ok (.getfield 50, 3) := dk_180 0 50 (dk_at dksX0_drop_0 12 rfl rfl)
theorem dX0_drop_15 : decode cX0_drop 15 = .ok (.iconst 1, 1) := dk_4 (dk_at dksX0_drop_0 15 rfl rfl)
theorem dX0_drop_16 : decode cX0_drop 16 = .ok (.isub, 1) := dk_100 (dk_at dksX0_drop_0 16 rfl rfl)
theorem dX0_drop_17 : decode cX0_drop 17 = .ok (.putfield 50, 3) := dk_181 0 50 (dk_at dksX0_drop_0 17 rfl rfl)
theorem dX0_drop_20 : decode cX0_drop 20 = .ok (.aload_n 0, 1) := dk_42 (dk_at dksX0_drop_0 20 rfl rfl)
theorem dX0_drop_21 : decode cX0_drop 21 = .ok (.getfield 50, 3) := dk_180 0 50 (dk_at dksX0_drop_0 21 rfl rfl)
theorem dX0_drop_24 : decode cX0_drop 24 = .ok (.ireturn, 1) := dk_172 (dk_at dksX0_drop_1 0 rfl rfl)
abbrev cX0_textOf : ByteArray := prog_1_method_14_code
def yX0_textOf : MethodName := ⟨RX0, "textOf", "(II)I"⟩
def dkwX0_textOf_9 : List UInt8 := [45, 182, 0, 67, 172, 21, 4, 172, 21, 5, 172, 21, 6, 172, 21, 7, 172, 21, 8, 172, 16, 246, 172]
abbrev dktX0_textOf_9 : List UInt8 := dkwX0_textOf_9 ++ []
def dkwX0_textOf_8 : List UInt8 := [170, 0, 0, 0, 0, 0, 59, 0, 0, 0, 0, 0, 0, 0, 5, 0, 0, 0, 39, 0, 0, 0, 44, 0, 0, 0, 47, 0, 0, 0, 50, 0, 0, 0, 53, 0, 0, 0, 56]
abbrev dktX0_textOf_8 : List UInt8 := dkwX0_textOf_8 ++ dktX0_textOf_9
def dkwX0_textOf_7 : List UInt8 := [184, 0, 82, 54, 8, 132, 9, 1, 167, 255, 152, 28]
abbrev dktX0_textOf_7 : List UInt8 := dkwX0_textOf_7 ++ dktX0_textOf_8
def dkwX0_textOf_6 : List UInt8 := [54, 6, 45, 21, 9, 21, 10, 182, 0, 78, 153, 0, 18, 132, 7, 1, 21, 8, 21, 10, 21, 9, 100]
abbrev dktX0_textOf_6 : List UInt8 := dkwX0_textOf_6 ++ dktX0_textOf_7
def dkwX0_textOf_5 : List UInt8 := [45, 21, 9, 182, 0, 75, 54, 10, 21, 6, 21, 10, 21, 9, 164, 0, 7, 4, 167, 0, 4, 3, 96]
abbrev dktX0_textOf_5 : List UInt8 := dkwX0_textOf_5 ++ dktX0_textOf_6
def dkwX0_textOf_4 : List UInt8 := [96, 54, 4, 21, 5, 45, 180, 0, 53, 21, 9, 46, 2, 160, 0, 7, 4, 167, 0, 4, 3, 96, 54, 5]
abbrev dktX0_textOf_4 : List UInt8 := dkwX0_textOf_4 ++ dktX0_textOf_5
def dkwX0_textOf_3 : List UInt8 := [45, 182, 0, 67, 162, 0, 101, 21, 4, 45, 180, 0, 53, 21, 9, 46, 155, 0, 7, 4, 167, 0, 4, 3]
abbrev dktX0_textOf_3 : List UInt8 := dkwX0_textOf_3 ++ dktX0_textOf_4
def dkwX0_textOf_2 : List UInt8 := [182, 0, 71, 172, 3, 54, 4, 3, 54, 5, 3, 54, 6, 3, 54, 7, 3, 54, 8, 3, 54, 9, 21, 9]
abbrev dktX0_textOf_2 : List UInt8 := dkwX0_textOf_2 ++ dktX0_textOf_3
def dkwX0_textOf_1 : List UInt8 := [20, 0, 65, 16, 9, 45, 182, 0, 67, 96, 133, 184, 0, 5, 153, 0, 13, 42, 45, 28, 16, 10, 100]
abbrev dktX0_textOf_1 : List UInt8 := dkwX0_textOf_1 ++ dktX0_textOf_2
def dkwX0_textOf_0 : List UInt8 := [42, 27, 182, 0, 58, 154, 0, 6, 16, 246, 172, 42, 182, 0, 38, 42, 180, 0, 61, 27, 50, 78, 28, 133]
abbrev dktX0_textOf_0 : List UInt8 := dkwX0_textOf_0 ++ dktX0_textOf_1
theorem dksX0_textOf_0 : cX0_textOf.data.toList.drop 0 = dktX0_textOf_0 := by decide +kernel
theorem dksX0_textOf_1 : cX0_textOf.data.toList.drop 24 = dktX0_textOf_1 := dk_seg dksX0_textOf_0 24 rfl rfl
theorem dksX0_textOf_2 : cX0_textOf.data.toList.drop 47 = dktX0_textOf_2 := dk_seg dksX0_textOf_1 23 rfl rfl
theorem dksX0_textOf_3 : cX0_textOf.data.toList.drop 71 = dktX0_textOf_3 := dk_seg dksX0_textOf_2 24 rfl rfl
theorem dksX0_textOf_4 : cX0_textOf.data.toList.drop 95 = dktX0_textOf_4 := dk_seg dksX0_textOf_3 24 rfl rfl
theorem dksX0_textOf_5 : cX0_textOf.data.toList.drop 119 = dktX0_textOf_5 := dk_seg dksX0_textOf_4 24 rfl rfl
theorem dksX0_textOf_6 : cX0_textOf.data.toList.drop 142 = dktX0_textOf_6 := dk_seg dksX0_textOf_5 23 rfl rfl
theorem dksX0_textOf_7 : cX0_textOf.data.toList.drop 165 = dktX0_textOf_7 := dk_seg dksX0_textOf_6 23 rfl rfl
theorem dksX0_textOf_8 : cX0_textOf.data.toList.drop 177 = dktX0_textOf_8 := dk_seg dksX0_textOf_7 12 rfl rfl
theorem dksX0_textOf_9 : cX0_textOf.data.toList.drop 216 = dktX0_textOf_9 := dk_seg dksX0_textOf_8 39 rfl rfl
theorem dX0_textOf_0 : decode cX0_textOf 0 = .ok (.aload_n 0, 1) := dk_42 (dk_at dksX0_textOf_0 0 rfl rfl)
theorem dX0_textOf_1 : decode cX0_textOf 1 = .ok (.iload_n 1, 1) := dk_27 (dk_at dksX0_textOf_0 1 rfl rfl)
theorem dX0_textOf_2 : decode cX0_textOf 2 = .ok (.invokevirtual 58, 3) := dk_182 0 58 (dk_at dksX0_textOf_0 2 rfl rfl)
theorem dX0_textOf_5 : decode cX0_textOf 5 = .ok (.ifCond .ne 6, 3) := dk_154 0 6 (dk_at dksX0_textOf_0 5 rfl rfl)
theorem dX0_textOf_8 : decode cX0_textOf 8 = .ok (.bipush (-10), 2) := dk_16 246 (dk_at dksX0_textOf_0 8 rfl rfl)
theorem dX0_textOf_10 : decode cX0_textOf 10 = .ok (.ireturn, 1) := dk_172 (dk_at dksX0_textOf_0 10 rfl rfl)
theorem dX0_textOf_11 : decode cX0_textOf 11 = .ok (.aload_n 0, 1) := dk_42 (dk_at dksX0_textOf_0 11 rfl rfl)
theorem dX0_textOf_12 : decode cX0_textOf 12 = .ok (.invokevirtual 38, 3) := dk_182 0 38 (dk_at dksX0_textOf_0 12 rfl rfl)
theorem dX0_textOf_15 : decode cX0_textOf 15 = .ok (.aload_n 0, 1) := dk_42 (dk_at dksX0_textOf_0 15 rfl rfl)
theorem dX0_textOf_16 : decode cX0_textOf 16 = .ok (.getfield 61, 3) := dk_180 0 61 (dk_at dksX0_textOf_0 16 rfl rfl)
theorem dX0_textOf_19 : decode cX0_textOf 19 = .ok (.iload_n 1, 1) := dk_27 (dk_at dksX0_textOf_0 19 rfl rfl)
theorem dX0_textOf_20 : decode cX0_textOf 20 = .ok (.aaload, 1) := dk_50 (dk_at dksX0_textOf_0 20 rfl rfl)
theorem dX0_textOf_21 : decode cX0_textOf 21 = .ok (.astore_n 3, 1) := dk_78 (dk_at dksX0_textOf_0 21 rfl rfl)
theorem dX0_textOf_22 : decode cX0_textOf 22 = .ok (.iload_n 2, 1) := dk_28 (dk_at dksX0_textOf_0 22 rfl rfl)
theorem dX0_textOf_23 : decode cX0_textOf 23 = .ok (.i2l, 1) := dk_133 (dk_at dksX0_textOf_0 23 rfl rfl)
theorem dX0_textOf_24 : decode cX0_textOf 24 = .ok (.ldc2_w 65, 3) := dk_20 0 65 (dk_at dksX0_textOf_1 0 rfl rfl)
theorem dX0_textOf_27 : decode cX0_textOf 27 = .ok (.bipush 9, 2) := dk_16 9 (dk_at dksX0_textOf_1 3 rfl rfl)
theorem dX0_textOf_29 : decode cX0_textOf 29 = .ok (.aload_n 3, 1) := dk_45 (dk_at dksX0_textOf_1 5 rfl rfl)
theorem dX0_textOf_30 : decode cX0_textOf 30 = .ok (.invokevirtual 67, 3) := dk_182 0 67 (dk_at dksX0_textOf_1 6 rfl rfl)
theorem dX0_textOf_33 : decode cX0_textOf 33 = .ok (.iadd, 1) := dk_96 (dk_at dksX0_textOf_1 9 rfl rfl)
theorem dX0_textOf_34 : decode cX0_textOf 34 = .ok (.i2l, 1) := dk_133 (dk_at dksX0_textOf_1 10 rfl rfl)
theorem dX0_textOf_35 : decode cX0_textOf 35 = .ok (.invokestatic 5, 3) := dk_184 0 5 (dk_at dksX0_textOf_1 11 rfl rfl)
theorem dX0_textOf_38 : decode cX0_textOf 38 = .ok (.ifCond .eq 13, 3) := dk_153 0 13 (dk_at dksX0_textOf_1 14 rfl rfl)
theorem dX0_textOf_41 : decode cX0_textOf 41 = .ok (.aload_n 0, 1) := dk_42 (dk_at dksX0_textOf_1 17 rfl rfl)
theorem dX0_textOf_42 : decode cX0_textOf 42 = .ok (.aload_n 3, 1) := dk_45 (dk_at dksX0_textOf_1 18 rfl rfl)
theorem dX0_textOf_43 : decode cX0_textOf 43 = .ok (.iload_n 2, 1) := dk_28 (dk_at dksX0_textOf_1 19 rfl rfl)
theorem dX0_textOf_44 : decode cX0_textOf 44 = .ok (.bipush 10, 2) := dk_16 10 (dk_at dksX0_textOf_1 20 rfl rfl)
theorem dX0_textOf_46 : decode cX0_textOf 46 = .ok (.isub, 1) := dk_100 (dk_at dksX0_textOf_1 22 rfl rfl)
theorem dX0_textOf_47 : decode cX0_textOf 47 = .ok (.invokevirtual 71, 3) := dk_182 0 71 (dk_at dksX0_textOf_2 0 rfl rfl)
theorem dX0_textOf_50 : decode cX0_textOf 50 = .ok (.ireturn, 1) := dk_172 (dk_at dksX0_textOf_2 3 rfl rfl)
theorem dX0_textOf_51 : decode cX0_textOf 51 = .ok (.iconst 0, 1) := dk_3 (dk_at dksX0_textOf_2 4 rfl rfl)
theorem dX0_textOf_52 : decode cX0_textOf 52 = .ok (.istore 4, 2) := dk_54 4 (dk_at dksX0_textOf_2 5 rfl rfl)
theorem dX0_textOf_54 : decode cX0_textOf 54 = .ok (.iconst 0, 1) := dk_3 (dk_at dksX0_textOf_2 7 rfl rfl)
theorem dX0_textOf_55 : decode cX0_textOf 55 = .ok (.istore 5, 2) := dk_54 5 (dk_at dksX0_textOf_2 8 rfl rfl)
theorem dX0_textOf_57 : decode cX0_textOf 57 = .ok (.iconst 0, 1) := dk_3 (dk_at dksX0_textOf_2 10 rfl rfl)
theorem dX0_textOf_58 : decode cX0_textOf 58 = .ok (.istore 6, 2) := dk_54 6 (dk_at dksX0_textOf_2 11 rfl rfl)
theorem dX0_textOf_60 : decode cX0_textOf 60 = .ok (.iconst 0, 1) := dk_3 (dk_at dksX0_textOf_2 13 rfl rfl)
theorem dX0_textOf_61 : decode cX0_textOf 61 = .ok (.istore 7, 2) := dk_54 7 (dk_at dksX0_textOf_2 14 rfl rfl)
theorem dX0_textOf_63 : decode cX0_textOf 63 = .ok (.iconst 0, 1) := dk_3 (dk_at dksX0_textOf_2 16 rfl rfl)
theorem dX0_textOf_64 : decode cX0_textOf 64 = .ok (.istore 8, 2) := dk_54 8 (dk_at dksX0_textOf_2 17 rfl rfl)
theorem dX0_textOf_66 : decode cX0_textOf 66 = .ok (.iconst 0, 1) := dk_3 (dk_at dksX0_textOf_2 19 rfl rfl)
theorem dX0_textOf_67 : decode cX0_textOf 67 = .ok (.istore 9, 2) := dk_54 9 (dk_at dksX0_textOf_2 20 rfl rfl)
theorem dX0_textOf_69 : decode cX0_textOf 69 = .ok (.iload 9, 2) := dk_21 9 (dk_at dksX0_textOf_2 22 rfl rfl)
theorem dX0_textOf_71 : decode cX0_textOf 71 = .ok (.aload_n 3, 1) := dk_45 (dk_at dksX0_textOf_3 0 rfl rfl)
theorem dX0_textOf_72 : decode cX0_textOf 72 = .ok (.invokevirtual 67, 3) := dk_182 0 67 (dk_at dksX0_textOf_3 1 rfl rfl)
theorem dX0_textOf_75 : decode cX0_textOf 75 = .ok (.if_icmp .ge 101, 3) := dk_162 0 101 (dk_at dksX0_textOf_3 4 rfl rfl)
theorem dX0_textOf_78 : decode cX0_textOf 78 = .ok (.iload 4, 2) := dk_21 4 (dk_at dksX0_textOf_3 7 rfl rfl)
theorem dX0_textOf_80 : decode cX0_textOf 80 = .ok (.aload_n 3, 1) := dk_45 (dk_at dksX0_textOf_3 9 rfl rfl)
theorem dX0_textOf_81 : decode cX0_textOf 81 = .ok (.getfield 53, 3) := dk_180 0 53 (dk_at dksX0_textOf_3 10 rfl rfl)
theorem dX0_textOf_84 : decode cX0_textOf 84 = .ok (.iload 9, 2) := dk_21 9 (dk_at dksX0_textOf_3 13 rfl rfl)
theorem dX0_textOf_86 : decode cX0_textOf 86 = .ok (.iaload, 1) := dk_46 (dk_at dksX0_textOf_3 15 rfl rfl)
theorem dX0_textOf_87 : decode cX0_textOf 87 = .ok (.ifCond .lt 7, 3) := dk_155 0 7 (dk_at dksX0_textOf_3 16 rfl rfl)
theorem dX0_textOf_90 : decode cX0_textOf 90 = .ok (.iconst 1, 1) := dk_4 (dk_at dksX0_textOf_3 19 rfl rfl)
theorem dX0_textOf_91 : decode cX0_textOf 91 = .ok (.goto 4, 3) := dk_167 0 4 (dk_at dksX0_textOf_3 20 rfl rfl)
theorem dX0_textOf_94 : decode cX0_textOf 94 = .ok (.iconst 0, 1) := dk_3 (dk_at dksX0_textOf_3 23 rfl rfl)
theorem dX0_textOf_95 : decode cX0_textOf 95 = .ok (.iadd, 1) := dk_96 (dk_at dksX0_textOf_4 0 rfl rfl)
theorem dX0_textOf_96 : decode cX0_textOf 96 = .ok (.istore 4, 2) := dk_54 4 (dk_at dksX0_textOf_4 1 rfl rfl)
theorem dX0_textOf_98 : decode cX0_textOf 98 = .ok (.iload 5, 2) := dk_21 5 (dk_at dksX0_textOf_4 3 rfl rfl)
theorem dX0_textOf_100 : decode cX0_textOf 100 = .ok (.aload_n 3, 1) := dk_45 (dk_at dksX0_textOf_4 5 rfl rfl)
theorem dX0_textOf_101 : decode cX0_textOf 101 = .ok (.getfield 53, 3) := dk_180 0 53 (dk_at dksX0_textOf_4 6 rfl rfl)
theorem dX0_textOf_104 : decode cX0_textOf 104 = .ok (.iload 9, 2) := dk_21 9 (dk_at dksX0_textOf_4 9 rfl rfl)
theorem dX0_textOf_106 : decode cX0_textOf 106 = .ok (.iaload, 1) := dk_46 (dk_at dksX0_textOf_4 11 rfl rfl)
theorem dX0_textOf_107 : decode cX0_textOf 107 = .ok (.iconst (-1), 1) := dk_2 (dk_at dksX0_textOf_4 12 rfl rfl)
theorem dX0_textOf_108 : decode cX0_textOf 108 = .ok (.if_icmp .ne 7, 3) := dk_160 0 7 (dk_at dksX0_textOf_4 13 rfl rfl)
theorem dX0_textOf_111 : decode cX0_textOf 111 = .ok (.iconst 1, 1) := dk_4 (dk_at dksX0_textOf_4 16 rfl rfl)
theorem dX0_textOf_112 : decode cX0_textOf 112 = .ok (.goto 4, 3) := dk_167 0 4 (dk_at dksX0_textOf_4 17 rfl rfl)
theorem dX0_textOf_115 : decode cX0_textOf 115 = .ok (.iconst 0, 1) := dk_3 (dk_at dksX0_textOf_4 20 rfl rfl)
theorem dX0_textOf_116 : decode cX0_textOf 116 = .ok (.iadd, 1) := dk_96 (dk_at dksX0_textOf_4 21 rfl rfl)
theorem dX0_textOf_117 : decode cX0_textOf 117 = .ok (.istore 5, 2) := dk_54 5 (dk_at dksX0_textOf_4 22 rfl rfl)
theorem dX0_textOf_119 : decode cX0_textOf 119 = .ok (.aload_n 3, 1) := dk_45 (dk_at dksX0_textOf_5 0 rfl rfl)
theorem dX0_textOf_120 : decode cX0_textOf 120 = .ok (.iload 9, 2) := dk_21 9 (dk_at dksX0_textOf_5 1 rfl rfl)
theorem dX0_textOf_122 : decode cX0_textOf 122 = .ok (.invokevirtual 75, 3) := dk_182 0 75 (dk_at dksX0_textOf_5 3 rfl rfl)
theorem dX0_textOf_125 : decode cX0_textOf 125 = .ok (.istore 10, 2) := dk_54 10 (dk_at dksX0_textOf_5 6 rfl rfl)
theorem dX0_textOf_127 : decode cX0_textOf 127 = .ok (.iload 6, 2) := dk_21 6 (dk_at dksX0_textOf_5 8 rfl rfl)
theorem dX0_textOf_129 : decode cX0_textOf 129 = .ok (.iload 10, 2) := dk_21 10 (dk_at dksX0_textOf_5 10 rfl rfl)
theorem dX0_textOf_131 : decode cX0_textOf 131 = .ok (.iload 9, 2) := dk_21 9 (dk_at dksX0_textOf_5 12 rfl rfl)
theorem dX0_textOf_133 : decode cX0_textOf 133 = .ok (.if_icmp .le 7, 3) := dk_164 0 7 (dk_at dksX0_textOf_5 14 rfl rfl)
theorem dX0_textOf_136 : decode cX0_textOf 136 = .ok (.iconst 1, 1) := dk_4 (dk_at dksX0_textOf_5 17 rfl rfl)
theorem dX0_textOf_137 : decode cX0_textOf 137 = .ok (.goto 4, 3) := dk_167 0 4 (dk_at dksX0_textOf_5 18 rfl rfl)
theorem dX0_textOf_140 : decode cX0_textOf 140 = .ok (.iconst 0, 1) := dk_3 (dk_at dksX0_textOf_5 21 rfl rfl)
theorem dX0_textOf_141 : decode cX0_textOf 141 = .ok (.iadd, 1) := dk_96 (dk_at dksX0_textOf_5 22 rfl rfl)
theorem dX0_textOf_142 : decode cX0_textOf 142 = .ok (.istore 6, 2) := dk_54 6 (dk_at dksX0_textOf_6 0 rfl rfl)
theorem dX0_textOf_144 : decode cX0_textOf 144 = .ok (.aload_n 3, 1) := dk_45 (dk_at dksX0_textOf_6 2 rfl rfl)
theorem dX0_textOf_145 : decode cX0_textOf 145 = .ok (.iload 9, 2) := dk_21 9 (dk_at dksX0_textOf_6 3 rfl rfl)
theorem dX0_textOf_147 : decode cX0_textOf 147 = .ok (.iload 10, 2) := dk_21 10 (dk_at dksX0_textOf_6 5 rfl rfl)
theorem dX0_textOf_149 : decode cX0_textOf 149 = .ok (.invokevirtual 78, 3) := dk_182 0 78 (dk_at dksX0_textOf_6 7 rfl rfl)
theorem dX0_textOf_152 : decode cX0_textOf 152 = .ok (.ifCond .eq 18, 3) := dk_153 0 18 (dk_at dksX0_textOf_6 10 rfl rfl)
theorem dX0_textOf_155 : decode cX0_textOf 155 = .ok (.iinc 7 1, 3) := dk_132 7 1 (dk_at dksX0_textOf_6 13 rfl rfl)
theorem dX0_textOf_158 : decode cX0_textOf 158 = .ok (.iload 8, 2) := dk_21 8 (dk_at dksX0_textOf_6 16 rfl rfl)
theorem dX0_textOf_160 : decode cX0_textOf 160 = .ok (.iload 10, 2) := dk_21 10 (dk_at dksX0_textOf_6 18 rfl rfl)
theorem dX0_textOf_162 : decode cX0_textOf 162 = .ok (.iload 9, 2) := dk_21 9 (dk_at dksX0_textOf_6 20 rfl rfl)
theorem dX0_textOf_164 : decode cX0_textOf 164 = .ok (.isub, 1) := dk_100 (dk_at dksX0_textOf_6 22 rfl rfl)
theorem dX0_textOf_165 : decode cX0_textOf 165 = .ok (.invokestatic 82, 3) := dk_184 0 82 (dk_at dksX0_textOf_7 0 rfl rfl)
theorem dX0_textOf_168 : decode cX0_textOf 168 = .ok (.istore 8, 2) := dk_54 8 (dk_at dksX0_textOf_7 3 rfl rfl)
theorem dX0_textOf_170 : decode cX0_textOf 170 = .ok (.iinc 9 1, 3) := dk_132 9 1 (dk_at dksX0_textOf_7 5 rfl rfl)
theorem dX0_textOf_173 : decode cX0_textOf 173 = .ok (.goto (-104), 3) := dk_167 255 152 (dk_at dksX0_textOf_7 8 rfl rfl)
theorem dX0_textOf_176 : decode cX0_textOf 176 = .ok (.iload_n 2, 1) := dk_28 (dk_at dksX0_textOf_7 11 rfl rfl)
theorem dX0_textOf_177 : decode cX0_textOf 177 = .ok (.tableswitch 59 0 5 #[39, 44, 47, 50, 53, 56], 39) := by decide +kernel
theorem dX0_textOf_216 : decode cX0_textOf 216 = .ok (.aload_n 3, 1) := dk_45 (dk_at dksX0_textOf_9 0 rfl rfl)
theorem dX0_textOf_217 : decode cX0_textOf 217 = .ok (.invokevirtual 67, 3) := dk_182 0 67 (dk_at dksX0_textOf_9 1 rfl rfl)
theorem dX0_textOf_220 : decode cX0_textOf 220 = .ok (.ireturn, 1) := dk_172 (dk_at dksX0_textOf_9 4 rfl rfl)
theorem dX0_textOf_221 : decode cX0_textOf 221 = .ok (.iload 4, 2) := dk_21 4 (dk_at dksX0_textOf_9 5 rfl rfl)
theorem dX0_textOf_223 : decode cX0_textOf 223 = .ok (.ireturn, 1) := dk_172 (dk_at dksX0_textOf_9 7 rfl rfl)
theorem dX0_textOf_224 : decode cX0_textOf 224 = .ok (.iload 5, 2) := dk_21 5 (dk_at dksX0_textOf_9 8 rfl rfl)
theorem dX0_textOf_226 : decode cX0_textOf 226 = .ok (.ireturn, 1) := dk_172 (dk_at dksX0_textOf_9 10 rfl rfl)
theorem dX0_textOf_227 : decode cX0_textOf 227 = .ok (.iload 6, 2) := dk_21 6 (dk_at dksX0_textOf_9 11 rfl rfl)
theorem dX0_textOf_229 : decode cX0_textOf 229 = .ok (.ireturn, 1) := dk_172 (dk_at dksX0_textOf_9 13 rfl rfl)
theorem dX0_textOf_230 : decode cX0_textOf 230 = .ok (.iload 7, 2) := dk_21 7 (dk_at dksX0_textOf_9 14 rfl rfl)
theorem dX0_textOf_232 : decode cX0_textOf 232 = .ok (.ireturn, 1) := dk_172 (dk_at dksX0_textOf_9 16 rfl rfl)
theorem dX0_textOf_233 : decode cX0_textOf 233 = .ok (.iload 8, 2) := dk_21 8 (dk_at dksX0_textOf_9 17 rfl rfl)
theorem dX0_textOf_235 : decode cX0_textOf 235 = .ok (.ireturn, 1) := dk_172 (dk_at dksX0_textOf_9 19 rfl rfl)
theorem dX0_textOf_236 : decode cX0_textOf 236 = .ok (.bipush (-10), 2) := dk_16 246 (dk_at dksX0_textOf_9 20 rfl rfl)
theorem dX0_textOf_238 : decode cX0_textOf 238 = .ok (.ireturn, 1) := dk_172 (dk_at dksX0_textOf_9 22 rfl rfl)
abbrev cX0_isText : ByteArray := prog_1_method_11_code
def yX0_isText : MethodName := ⟨RX0, "isText", "(I)Z"⟩
def dkwX0_isText_0 : List UInt8 := [27, 133, 9, 42, 180, 0, 50, 4, 100, 133, 184, 0, 5, 172]
abbrev dktX0_isText_0 : List UInt8 := dkwX0_isText_0 ++ []
theorem dksX0_isText_0 : cX0_isText.data.toList.drop 0 = dktX0_isText_0 := by decide +kernel
theorem dX0_isText_0 : decode cX0_isText 0 = .ok (.iload_n 1, 1) := dk_27 (dk_at dksX0_isText_0 0 rfl rfl)
theorem dX0_isText_1 : decode cX0_isText 1 = .ok (.i2l, 1) := dk_133 (dk_at dksX0_isText_0 1 rfl rfl)
theorem dX0_isText_2 : decode cX0_isText 2 = .ok (.lconst 0, 1) := dk_9 (dk_at dksX0_isText_0 2 rfl rfl)
theorem dX0_isText_3 : decode cX0_isText 3 = .ok (.aload_n 0, 1) := dk_42 (dk_at dksX0_isText_0 3 rfl rfl)
theorem dX0_isText_4 : decode cX0_isText 4 = .ok (.getfield 50, 3) := dk_180 0 50 (dk_at dksX0_isText_0 4 rfl rfl)
theorem dX0_isText_7 : decode cX0_isText 7 = .ok (.iconst 1, 1) := dk_4 (dk_at dksX0_isText_0 7 rfl rfl)
theorem dX0_isText_8 : decode cX0_isText 8 = .ok (.isub, 1) := dk_100 (dk_at dksX0_isText_0 8 rfl rfl)
theorem dX0_isText_9 : decode cX0_isText 9 = .ok (.i2l, 1) := dk_133 (dk_at dksX0_isText_0 9 rfl rfl)
theorem dX0_isText_10 : decode cX0_isText 10 = .ok (.invokestatic 5, 3) := dk_184 0 5 (dk_at dksX0_isText_0 10 rfl rfl)
theorem dX0_isText_13 : decode cX0_isText 13 = .ok (.ireturn, 1) := dk_172 (dk_at dksX0_isText_0 13 rfl rfl)
abbrev cX0_signAt : ByteArray := prog_1_method_12_code
def yX0_signAt : MethodName := ⟨RX0, "signAt", "(LUnreadScript$Text;I)I"⟩
def dkwX0_signAt_1 : List UInt8 := [180, 0, 53, 28, 46, 46, 172]
abbrev dktX0_signAt_1 : List UInt8 := dkwX0_signAt_1 ++ []
def dkwX0_signAt_0 : List UInt8 := [43, 180, 0, 53, 28, 46, 156, 0, 12, 43, 180, 0, 53, 28, 46, 167, 0, 14, 42, 180, 0, 22, 43]
abbrev dktX0_signAt_0 : List UInt8 := dkwX0_signAt_0 ++ dktX0_signAt_1
theorem dksX0_signAt_0 : cX0_signAt.data.toList.drop 0 = dktX0_signAt_0 := by decide +kernel
theorem dksX0_signAt_1 : cX0_signAt.data.toList.drop 23 = dktX0_signAt_1 := dk_seg dksX0_signAt_0 23 rfl rfl
theorem dX0_signAt_0 : decode cX0_signAt 0 = .ok (.aload_n 1, 1) := dk_43 (dk_at dksX0_signAt_0 0 rfl rfl)
theorem dX0_signAt_1 : decode cX0_signAt 1 = .ok (.getfield 53, 3) := dk_180 0 53 (dk_at dksX0_signAt_0 1 rfl rfl)
theorem dX0_signAt_4 : decode cX0_signAt 4 = .ok (.iload_n 2, 1) := dk_28 (dk_at dksX0_signAt_0 4 rfl rfl)
theorem dX0_signAt_5 : decode cX0_signAt 5 = .ok (.iaload, 1) := dk_46 (dk_at dksX0_signAt_0 5 rfl rfl)
theorem dX0_signAt_6 : decode cX0_signAt 6 = .ok (.ifCond .ge 12, 3) := dk_156 0 12 (dk_at dksX0_signAt_0 6 rfl rfl)
theorem dX0_signAt_9 : decode cX0_signAt 9 = .ok (.aload_n 1, 1) := dk_43 (dk_at dksX0_signAt_0 9 rfl rfl)
theorem dX0_signAt_10 : decode cX0_signAt 10 = .ok (.getfield 53, 3) := dk_180 0 53 (dk_at dksX0_signAt_0 10 rfl rfl)
theorem dX0_signAt_13 : decode cX0_signAt 13 = .ok (.iload_n 2, 1) := dk_28 (dk_at dksX0_signAt_0 13 rfl rfl)
theorem dX0_signAt_14 : decode cX0_signAt 14 = .ok (.iaload, 1) := dk_46 (dk_at dksX0_signAt_0 14 rfl rfl)
theorem dX0_signAt_15 : decode cX0_signAt 15 = .ok (.goto 14, 3) := dk_167 0 14 (dk_at dksX0_signAt_0 15 rfl rfl)
theorem dX0_signAt_18 : decode cX0_signAt 18 = .ok (.aload_n 0, 1) := dk_42 (dk_at dksX0_signAt_0 18 rfl rfl)
theorem dX0_signAt_19 : decode cX0_signAt 19 = .ok (.getfield 22, 3) := dk_180 0 22 (dk_at dksX0_signAt_0 19 rfl rfl)
theorem dX0_signAt_22 : decode cX0_signAt 22 = .ok (.aload_n 1, 1) := dk_43 (dk_at dksX0_signAt_0 22 rfl rfl)
theorem dX0_signAt_23 : decode cX0_signAt 23 = .ok (.getfield 53, 3) := dk_180 0 53 (dk_at dksX0_signAt_1 0 rfl rfl)
theorem dX0_signAt_26 : decode cX0_signAt 26 = .ok (.iload_n 2, 1) := dk_28 (dk_at dksX0_signAt_1 3 rfl rfl)
theorem dX0_signAt_27 : decode cX0_signAt 27 = .ok (.iaload, 1) := dk_46 (dk_at dksX0_signAt_1 4 rfl rfl)
theorem dX0_signAt_28 : decode cX0_signAt 28 = .ok (.iaload, 1) := dk_46 (dk_at dksX0_signAt_1 5 rfl rfl)
theorem dX0_signAt_29 : decode cX0_signAt 29 = .ok (.ireturn, 1) := dk_172 (dk_at dksX0_signAt_1 6 rfl rfl)
abbrev cX0_counted : ByteArray := prog_1_method_16_code
def yX0_counted : MethodName := ⟨RX0, "counted", "(I)I"⟩
def dkwX0_counted_0 : List UInt8 := [42, 182, 0, 38, 42, 27, 182, 0, 44, 153, 0, 11, 42, 27, 182, 0, 88, 167, 0, 4, 2, 172]
abbrev dktX0_counted_0 : List UInt8 := dkwX0_counted_0 ++ []
theorem dksX0_counted_0 : cX0_counted.data.toList.drop 0 = dktX0_counted_0 := by decide +kernel
theorem dX0_counted_0 : decode cX0_counted 0 = .ok (.aload_n 0, 1) := dk_42 (dk_at dksX0_counted_0 0 rfl rfl)
theorem dX0_counted_1 : decode cX0_counted 1 = .ok (.invokevirtual 38, 3) := dk_182 0 38 (dk_at dksX0_counted_0 1 rfl rfl)
theorem dX0_counted_4 : decode cX0_counted 4 = .ok (.aload_n 0, 1) := dk_42 (dk_at dksX0_counted_0 4 rfl rfl)
theorem dX0_counted_5 : decode cX0_counted 5 = .ok (.iload_n 1, 1) := dk_27 (dk_at dksX0_counted_0 5 rfl rfl)
theorem dX0_counted_6 : decode cX0_counted 6 = .ok (.invokevirtual 44, 3) := dk_182 0 44 (dk_at dksX0_counted_0 6 rfl rfl)
theorem dX0_counted_9 : decode cX0_counted 9 = .ok (.ifCond .eq 11, 3) := dk_153 0 11 (dk_at dksX0_counted_0 9 rfl rfl)
theorem dX0_counted_12 : decode cX0_counted 12 = .ok (.aload_n 0, 1) := dk_42 (dk_at dksX0_counted_0 12 rfl rfl)
theorem dX0_counted_13 : decode cX0_counted 13 = .ok (.iload_n 1, 1) := dk_27 (dk_at dksX0_counted_0 13 rfl rfl)
theorem dX0_counted_14 : decode cX0_counted 14 = .ok (.invokevirtual 88, 3) := dk_182 0 88 (dk_at dksX0_counted_0 14 rfl rfl)
theorem dX0_counted_17 : decode cX0_counted 17 = .ok (.goto 4, 3) := dk_167 0 4 (dk_at dksX0_counted_0 17 rfl rfl)
theorem dX0_counted_20 : decode cX0_counted 20 = .ok (.iconst (-1), 1) := dk_2 (dk_at dksX0_counted_0 20 rfl rfl)
theorem dX0_counted_21 : decode cX0_counted 21 = .ok (.ireturn, 1) := dk_172 (dk_at dksX0_counted_0 21 rfl rfl)
abbrev cX0_countOf : ByteArray := prog_1_method_15_code
def yX0_countOf : MethodName := ⟨RX0, "countOf", "(I)I"⟩
def dkwX0_countOf_2 : List UInt8 := [167, 0, 4, 3, 96, 61, 132, 4, 1, 167, 255, 215, 132, 3, 1, 167, 255, 198, 28, 172]
abbrev dktX0_countOf_2 : List UInt8 := dkwX0_countOf_2 ++ []
def dkwX0_countOf_1 : List UInt8 := [182, 0, 67, 162, 0, 33, 28, 42, 42, 180, 0, 61, 29, 50, 21, 4, 182, 0, 71, 27, 160, 0, 7, 4]
abbrev dktX0_countOf_1 : List UInt8 := dkwX0_countOf_1 ++ dktX0_countOf_2
def dkwX0_countOf_0 : List UInt8 := [3, 61, 3, 62, 29, 42, 180, 0, 50, 162, 0, 56, 3, 54, 4, 21, 4, 42, 180, 0, 61, 29, 50]
abbrev dktX0_countOf_0 : List UInt8 := dkwX0_countOf_0 ++ dktX0_countOf_1
theorem dksX0_countOf_0 : cX0_countOf.data.toList.drop 0 = dktX0_countOf_0 := by decide +kernel
theorem dksX0_countOf_1 : cX0_countOf.data.toList.drop 23 = dktX0_countOf_1 := dk_seg dksX0_countOf_0 23 rfl rfl
theorem dksX0_countOf_2 : cX0_countOf.data.toList.drop 47 = dktX0_countOf_2 := dk_seg dksX0_countOf_1 24 rfl rfl
theorem dX0_countOf_0 : decode cX0_countOf 0 = .ok (.iconst 0, 1) := dk_3 (dk_at dksX0_countOf_0 0 rfl rfl)
theorem dX0_countOf_1 : decode cX0_countOf 1 = .ok (.istore_n 2, 1) := dk_61 (dk_at dksX0_countOf_0 1 rfl rfl)
theorem dX0_countOf_2 : decode cX0_countOf 2 = .ok (.iconst 0, 1) := dk_3 (dk_at dksX0_countOf_0 2 rfl rfl)
theorem dX0_countOf_3 : decode cX0_countOf 3 = .ok (.istore_n 3, 1) := dk_62 (dk_at dksX0_countOf_0 3 rfl rfl)
theorem dX0_countOf_4 : decode cX0_countOf 4 = .ok (.iload_n 3, 1) := dk_29 (dk_at dksX0_countOf_0 4 rfl rfl)
theorem dX0_countOf_5 : decode cX0_countOf 5 = .ok (.aload_n 0, 1) := dk_42 (dk_at dksX0_countOf_0 5 rfl rfl)
theorem dX0_countOf_6 : decode cX0_countOf 6 = .ok (.getfield 50, 3) := dk_180 0 50 (dk_at dksX0_countOf_0 6 rfl rfl)
theorem dX0_countOf_9 : decode cX0_countOf 9 = .ok (.if_icmp .ge 56, 3) := dk_162 0 56 (dk_at dksX0_countOf_0 9 rfl rfl)
theorem dX0_countOf_12 : decode cX0_countOf 12 = .ok (.iconst 0, 1) := dk_3 (dk_at dksX0_countOf_0 12 rfl rfl)
theorem dX0_countOf_13 : decode cX0_countOf 13 = .ok (.istore 4, 2) := dk_54 4 (dk_at dksX0_countOf_0 13 rfl rfl)
theorem dX0_countOf_15 : decode cX0_countOf 15 = .ok (.iload 4, 2) := dk_21 4 (dk_at dksX0_countOf_0 15 rfl rfl)
theorem dX0_countOf_17 : decode cX0_countOf 17 = .ok (.aload_n 0, 1) := dk_42 (dk_at dksX0_countOf_0 17 rfl rfl)
theorem dX0_countOf_18 : decode cX0_countOf 18 = .ok (.getfield 61, 3) := dk_180 0 61 (dk_at dksX0_countOf_0 18 rfl rfl)
theorem dX0_countOf_21 : decode cX0_countOf 21 = .ok (.iload_n 3, 1) := dk_29 (dk_at dksX0_countOf_0 21 rfl rfl)
theorem dX0_countOf_22 : decode cX0_countOf 22 = .ok (.aaload, 1) := dk_50 (dk_at dksX0_countOf_0 22 rfl rfl)
theorem dX0_countOf_23 : decode cX0_countOf 23 = .ok (.invokevirtual 67, 3) := dk_182 0 67 (dk_at dksX0_countOf_1 0 rfl rfl)
theorem dX0_countOf_26 : decode cX0_countOf 26 = .ok (.if_icmp .ge 33, 3) := dk_162 0 33 (dk_at dksX0_countOf_1 3 rfl rfl)
theorem dX0_countOf_29 : decode cX0_countOf 29 = .ok (.iload_n 2, 1) := dk_28 (dk_at dksX0_countOf_1 6 rfl rfl)
theorem dX0_countOf_30 : decode cX0_countOf 30 = .ok (.aload_n 0, 1) := dk_42 (dk_at dksX0_countOf_1 7 rfl rfl)
theorem dX0_countOf_31 : decode cX0_countOf 31 = .ok (.aload_n 0, 1) := dk_42 (dk_at dksX0_countOf_1 8 rfl rfl)
theorem dX0_countOf_32 : decode cX0_countOf 32 = .ok (.getfield 61, 3) := dk_180 0 61 (dk_at dksX0_countOf_1 9 rfl rfl)
theorem dX0_countOf_35 : decode cX0_countOf 35 = .ok (.iload_n 3, 1) := dk_29 (dk_at dksX0_countOf_1 12 rfl rfl)
theorem dX0_countOf_36 : decode cX0_countOf 36 = .ok (.aaload, 1) := dk_50 (dk_at dksX0_countOf_1 13 rfl rfl)
theorem dX0_countOf_37 : decode cX0_countOf 37 = .ok (.iload 4, 2) := dk_21 4 (dk_at dksX0_countOf_1 14 rfl rfl)
theorem dX0_countOf_39 : decode cX0_countOf 39 = .ok (.invokevirtual 71, 3) := dk_182 0 71 (dk_at dksX0_countOf_1 16 rfl rfl)
theorem dX0_countOf_42 : decode cX0_countOf 42 = .ok (.iload_n 1, 1) := dk_27 (dk_at dksX0_countOf_1 19 rfl rfl)
theorem dX0_countOf_43 : decode cX0_countOf 43 = .ok (.if_icmp .ne 7, 3) := dk_160 0 7 (dk_at dksX0_countOf_1 20 rfl rfl)
theorem dX0_countOf_46 : decode cX0_countOf 46 = .ok (.iconst 1, 1) := dk_4 (dk_at dksX0_countOf_1 23 rfl rfl)
theorem dX0_countOf_47 : decode cX0_countOf 47 = .ok (.goto 4, 3) := dk_167 0 4 (dk_at dksX0_countOf_2 0 rfl rfl)
theorem dX0_countOf_50 : decode cX0_countOf 50 = .ok (.iconst 0, 1) := dk_3 (dk_at dksX0_countOf_2 3 rfl rfl)
theorem dX0_countOf_51 : decode cX0_countOf 51 = .ok (.iadd, 1) := dk_96 (dk_at dksX0_countOf_2 4 rfl rfl)
theorem dX0_countOf_52 : decode cX0_countOf 52 = .ok (.istore_n 2, 1) := dk_61 (dk_at dksX0_countOf_2 5 rfl rfl)
theorem dX0_countOf_53 : decode cX0_countOf 53 = .ok (.iinc 4 1, 3) := dk_132 4 1 (dk_at dksX0_countOf_2 6 rfl rfl)
theorem dX0_countOf_56 : decode cX0_countOf 56 = .ok (.goto (-41), 3) := dk_167 255 215 (dk_at dksX0_countOf_2 9 rfl rfl)
theorem dX0_countOf_59 : decode cX0_countOf 59 = .ok (.iinc 3 1, 3) := dk_132 3 1 (dk_at dksX0_countOf_2 12 rfl rfl)
theorem dX0_countOf_62 : decode cX0_countOf 62 = .ok (.goto (-58), 3) := dk_167 255 198 (dk_at dksX0_countOf_2 15 rfl rfl)
theorem dX0_countOf_65 : decode cX0_countOf 65 = .ok (.iload_n 2, 1) := dk_28 (dk_at dksX0_countOf_2 18 rfl rfl)
theorem dX0_countOf_66 : decode cX0_countOf 66 = .ok (.ireturn, 1) := dk_172 (dk_at dksX0_countOf_2 19 rfl rfl)
abbrev cX0_beside : ByteArray := prog_1_method_18_code
def yX0_beside : MethodName := ⟨RX0, "beside", "(II)I"⟩
def dkwX0_beside_1 : List UInt8 := [182, 0, 91, 167, 0, 4, 2, 172]
abbrev dktX0_beside_1 : List UInt8 := dkwX0_beside_1 ++ []
def dkwX0_beside_0 : List UInt8 := [42, 182, 0, 38, 42, 27, 182, 0, 44, 153, 0, 20, 42, 28, 182, 0, 44, 153, 0, 12, 42, 27, 28]
abbrev dktX0_beside_0 : List UInt8 := dkwX0_beside_0 ++ dktX0_beside_1
theorem dksX0_beside_0 : cX0_beside.data.toList.drop 0 = dktX0_beside_0 := by decide +kernel
theorem dksX0_beside_1 : cX0_beside.data.toList.drop 23 = dktX0_beside_1 := dk_seg dksX0_beside_0 23 rfl rfl
theorem dX0_beside_0 : decode cX0_beside 0 = .ok (.aload_n 0, 1) := dk_42 (dk_at dksX0_beside_0 0 rfl rfl)
theorem dX0_beside_1 : decode cX0_beside 1 = .ok (.invokevirtual 38, 3) := dk_182 0 38 (dk_at dksX0_beside_0 1 rfl rfl)
theorem dX0_beside_4 : decode cX0_beside 4 = .ok (.aload_n 0, 1) := dk_42 (dk_at dksX0_beside_0 4 rfl rfl)
theorem dX0_beside_5 : decode cX0_beside 5 = .ok (.iload_n 1, 1) := dk_27 (dk_at dksX0_beside_0 5 rfl rfl)
theorem dX0_beside_6 : decode cX0_beside 6 = .ok (.invokevirtual 44, 3) := dk_182 0 44 (dk_at dksX0_beside_0 6 rfl rfl)
theorem dX0_beside_9 : decode cX0_beside 9 = .ok (.ifCond .eq 20, 3) := dk_153 0 20 (dk_at dksX0_beside_0 9 rfl rfl)
theorem dX0_beside_12 : decode cX0_beside 12 = .ok (.aload_n 0, 1) := dk_42 (dk_at dksX0_beside_0 12 rfl rfl)
theorem dX0_beside_13 : decode cX0_beside 13 = .ok (.iload_n 2, 1) := dk_28 (dk_at dksX0_beside_0 13 rfl rfl)
theorem dX0_beside_14 : decode cX0_beside 14 = .ok (.invokevirtual 44, 3) := dk_182 0 44 (dk_at dksX0_beside_0 14 rfl rfl)
theorem dX0_beside_17 : decode cX0_beside 17 = .ok (.ifCond .eq 12, 3) := dk_153 0 12 (dk_at dksX0_beside_0 17 rfl rfl)
theorem dX0_beside_20 : decode cX0_beside 20 = .ok (.aload_n 0, 1) := dk_42 (dk_at dksX0_beside_0 20 rfl rfl)
theorem dX0_beside_21 : decode cX0_beside 21 = .ok (.iload_n 1, 1) := dk_27 (dk_at dksX0_beside_0 21 rfl rfl)
theorem dX0_beside_22 : decode cX0_beside 22 = .ok (.iload_n 2, 1) := dk_28 (dk_at dksX0_beside_0 22 rfl rfl)
theorem dX0_beside_23 : decode cX0_beside 23 = .ok (.invokevirtual 91, 3) := dk_182 0 91 (dk_at dksX0_beside_1 0 rfl rfl)
theorem dX0_beside_26 : decode cX0_beside 26 = .ok (.goto 4, 3) := dk_167 0 4 (dk_at dksX0_beside_1 3 rfl rfl)
theorem dX0_beside_29 : decode cX0_beside 29 = .ok (.iconst (-1), 1) := dk_2 (dk_at dksX0_beside_1 6 rfl rfl)
theorem dX0_beside_30 : decode cX0_beside 30 = .ok (.ireturn, 1) := dk_172 (dk_at dksX0_beside_1 7 rfl rfl)
abbrev cX0_besideOf : ByteArray := prog_1_method_17_code
def yX0_besideOf : MethodName := ⟨RX0, "besideOf", "(II)I"⟩
def dkwX0_besideOf_4 : List UInt8 := [167, 0, 4, 3, 96, 62, 132, 5, 1, 167, 255, 172, 132, 4, 1, 167, 255, 154, 29, 172]
abbrev dktX0_besideOf_4 : List UInt8 := dkwX0_besideOf_4 ++ []
def dkwX0_besideOf_3 : List UInt8 := [21, 7, 155, 0, 23, 27, 155, 0, 15, 21, 6, 27, 160, 0, 13, 21, 7, 28, 160, 0, 7, 4]
abbrev dktX0_besideOf_3 : List UInt8 := dkwX0_besideOf_3 ++ dktX0_besideOf_4
def dkwX0_besideOf_2 : List UInt8 := [54, 6, 42, 42, 180, 0, 61, 21, 4, 50, 21, 5, 182, 0, 71, 54, 7, 29, 21, 6, 155, 0, 28]
abbrev dktX0_besideOf_2 : List UInt8 := dkwX0_besideOf_2 ++ dktX0_besideOf_3
def dkwX0_besideOf_1 : List UInt8 := [21, 4, 50, 182, 0, 67, 162, 0, 75, 42, 42, 180, 0, 61, 21, 4, 50, 21, 5, 4, 100, 182, 0, 71]
abbrev dktX0_besideOf_1 : List UInt8 := dkwX0_besideOf_1 ++ dktX0_besideOf_2
def dkwX0_besideOf_0 : List UInt8 := [3, 62, 3, 54, 4, 21, 4, 42, 180, 0, 50, 162, 0, 99, 4, 54, 5, 21, 5, 42, 180, 0, 61]
abbrev dktX0_besideOf_0 : List UInt8 := dkwX0_besideOf_0 ++ dktX0_besideOf_1
theorem dksX0_besideOf_0 : cX0_besideOf.data.toList.drop 0 = dktX0_besideOf_0 := by decide +kernel
theorem dksX0_besideOf_1 : cX0_besideOf.data.toList.drop 23 = dktX0_besideOf_1 := dk_seg dksX0_besideOf_0 23 rfl rfl
theorem dksX0_besideOf_2 : cX0_besideOf.data.toList.drop 47 = dktX0_besideOf_2 := dk_seg dksX0_besideOf_1 24 rfl rfl
theorem dksX0_besideOf_3 : cX0_besideOf.data.toList.drop 70 = dktX0_besideOf_3 := dk_seg dksX0_besideOf_2 23 rfl rfl
theorem dksX0_besideOf_4 : cX0_besideOf.data.toList.drop 92 = dktX0_besideOf_4 := dk_seg dksX0_besideOf_3 22 rfl rfl
theorem dX0_besideOf_0 : decode cX0_besideOf 0 = .ok (.iconst 0, 1) := dk_3 (dk_at dksX0_besideOf_0 0 rfl rfl)
theorem dX0_besideOf_1 : decode cX0_besideOf 1 = .ok (.istore_n 3, 1) := dk_62 (dk_at dksX0_besideOf_0 1 rfl rfl)
theorem dX0_besideOf_2 : decode cX0_besideOf 2 = .ok (.iconst 0, 1) := dk_3 (dk_at dksX0_besideOf_0 2 rfl rfl)
theorem dX0_besideOf_3 : decode cX0_besideOf 3 = .ok (.istore 4, 2) := dk_54 4 (dk_at dksX0_besideOf_0 3 rfl rfl)
theorem dX0_besideOf_5 : decode cX0_besideOf 5 = .ok (.iload 4, 2) := dk_21 4 (dk_at dksX0_besideOf_0 5 rfl rfl)
theorem dX0_besideOf_7 : decode cX0_besideOf 7 = .ok (.aload_n 0, 1) := dk_42 (dk_at dksX0_besideOf_0 7 rfl rfl)
theorem dX0_besideOf_8 : decode cX0_besideOf 8 = .ok (.getfield 50, 3) := dk_180 0 50 (dk_at dksX0_besideOf_0 8 rfl rfl)
theorem dX0_besideOf_11 : decode cX0_besideOf 11 = .ok (.if_icmp .ge 99, 3) := dk_162 0 99 (dk_at dksX0_besideOf_0 11 rfl rfl)
theorem dX0_besideOf_14 : decode cX0_besideOf 14 = .ok (.iconst 1, 1) := dk_4 (dk_at dksX0_besideOf_0 14 rfl rfl)
theorem dX0_besideOf_15 : decode cX0_besideOf 15 = .ok (.istore 5, 2) := dk_54 5 (dk_at dksX0_besideOf_0 15 rfl rfl)
theorem dX0_besideOf_17 : decode cX0_besideOf 17 = .ok (.iload 5, 2) := dk_21 5 (dk_at dksX0_besideOf_0 17 rfl rfl)
theorem dX0_besideOf_19 : decode cX0_besideOf 19 = .ok (.aload_n 0, 1) := dk_42 (dk_at dksX0_besideOf_0 19 rfl rfl)
theorem dX0_besideOf_20 : decode cX0_besideOf 20 = .ok (.getfield 61, 3) := dk_180 0 61 (dk_at dksX0_besideOf_0 20 rfl rfl)
theorem dX0_besideOf_23 : decode cX0_besideOf 23 = .ok (.iload 4, 2) := dk_21 4 (dk_at dksX0_besideOf_1 0 rfl rfl)
theorem dX0_besideOf_25 : decode cX0_besideOf 25 = .ok (.aaload, 1) := dk_50 (dk_at dksX0_besideOf_1 2 rfl rfl)
theorem dX0_besideOf_26 : decode cX0_besideOf 26 = .ok (.invokevirtual 67, 3) := dk_182 0 67 (dk_at dksX0_besideOf_1 3 rfl rfl)
theorem dX0_besideOf_29 : decode cX0_besideOf 29 = .ok (.if_icmp .ge 75, 3) := dk_162 0 75 (dk_at dksX0_besideOf_1 6 rfl rfl)
theorem dX0_besideOf_32 : decode cX0_besideOf 32 = .ok (.aload_n 0, 1) := dk_42 (dk_at dksX0_besideOf_1 9 rfl rfl)
theorem dX0_besideOf_33 : decode cX0_besideOf 33 = .ok (.aload_n 0, 1) := dk_42 (dk_at dksX0_besideOf_1 10 rfl rfl)
theorem dX0_besideOf_34 : decode cX0_besideOf 34 = .ok (.getfield 61, 3) := dk_180 0 61 (dk_at dksX0_besideOf_1 11 rfl rfl)
theorem dX0_besideOf_37 : decode cX0_besideOf 37 = .ok (.iload 4, 2) := dk_21 4 (dk_at dksX0_besideOf_1 14 rfl rfl)
theorem dX0_besideOf_39 : decode cX0_besideOf 39 = .ok (.aaload, 1) := dk_50 (dk_at dksX0_besideOf_1 16 rfl rfl)
theorem dX0_besideOf_40 : decode cX0_besideOf 40 = .ok (.iload 5, 2) := dk_21 5 (dk_at dksX0_besideOf_1 17 rfl rfl)
theorem dX0_besideOf_42 : decode cX0_besideOf 42 = .ok (.iconst 1, 1) := dk_4 (dk_at dksX0_besideOf_1 19 rfl rfl)
theorem dX0_besideOf_43 : decode cX0_besideOf 43 = .ok (.isub, 1) := dk_100 (dk_at dksX0_besideOf_1 20 rfl rfl)
theorem dX0_besideOf_44 : decode cX0_besideOf 44 = .ok (.invokevirtual 71, 3) := dk_182 0 71 (dk_at dksX0_besideOf_1 21 rfl rfl)
theorem dX0_besideOf_47 : decode cX0_besideOf 47 = .ok (.istore 6, 2) := dk_54 6 (dk_at dksX0_besideOf_2 0 rfl rfl)
theorem dX0_besideOf_49 : decode cX0_besideOf 49 = .ok (.aload_n 0, 1) := dk_42 (dk_at dksX0_besideOf_2 2 rfl rfl)
theorem dX0_besideOf_50 : decode cX0_besideOf 50 = .ok (.aload_n 0, 1) := dk_42 (dk_at dksX0_besideOf_2 3 rfl rfl)
theorem dX0_besideOf_51 : decode cX0_besideOf 51 = .ok (.getfield 61, 3) := dk_180 0 61 (dk_at dksX0_besideOf_2 4 rfl rfl)
theorem dX0_besideOf_54 : decode cX0_besideOf 54 = .ok (.iload 4, 2) := dk_21 4 (dk_at dksX0_besideOf_2 7 rfl rfl)
theorem dX0_besideOf_56 : decode cX0_besideOf 56 = .ok (.aaload, 1) := dk_50 (dk_at dksX0_besideOf_2 9 rfl rfl)
theorem dX0_besideOf_57 : decode cX0_besideOf 57 = .ok (.iload 5, 2) := dk_21 5 (dk_at dksX0_besideOf_2 10 rfl rfl)
theorem dX0_besideOf_59 : decode cX0_besideOf 59 = .ok (.invokevirtual 71, 3) := dk_182 0 71 (dk_at dksX0_besideOf_2 12 rfl rfl)
theorem dX0_besideOf_62 : decode cX0_besideOf 62 = .ok (.istore 7, 2) := dk_54 7 (dk_at dksX0_besideOf_2 15 rfl rfl)
theorem dX0_besideOf_64 : decode cX0_besideOf 64 = .ok (.iload_n 3, 1) := dk_29 (dk_at dksX0_besideOf_2 17 rfl rfl)
theorem dX0_besideOf_65 : decode cX0_besideOf 65 = .ok (.iload 6, 2) := dk_21 6 (dk_at dksX0_besideOf_2 18 rfl rfl)
theorem dX0_besideOf_67 : decode cX0_besideOf 67 = .ok (.ifCond .lt 28, 3) := dk_155 0 28 (dk_at dksX0_besideOf_2 20 rfl rfl)
theorem dX0_besideOf_70 : decode cX0_besideOf 70 = .ok (.iload 7, 2) := dk_21 7 (dk_at dksX0_besideOf_3 0 rfl rfl)
theorem dX0_besideOf_72 : decode cX0_besideOf 72 = .ok (.ifCond .lt 23, 3) := dk_155 0 23 (dk_at dksX0_besideOf_3 2 rfl rfl)
theorem dX0_besideOf_75 : decode cX0_besideOf 75 = .ok (.iload_n 1, 1) := dk_27 (dk_at dksX0_besideOf_3 5 rfl rfl)
theorem dX0_besideOf_76 : decode cX0_besideOf 76 = .ok (.ifCond .lt 15, 3) := dk_155 0 15 (dk_at dksX0_besideOf_3 6 rfl rfl)
theorem dX0_besideOf_79 : decode cX0_besideOf 79 = .ok (.iload 6, 2) := dk_21 6 (dk_at dksX0_besideOf_3 9 rfl rfl)
theorem dX0_besideOf_81 : decode cX0_besideOf 81 = .ok (.iload_n 1, 1) := dk_27 (dk_at dksX0_besideOf_3 11 rfl rfl)
theorem dX0_besideOf_82 : decode cX0_besideOf 82 = .ok (.if_icmp .ne 13, 3) := dk_160 0 13 (dk_at dksX0_besideOf_3 12 rfl rfl)
theorem dX0_besideOf_85 : decode cX0_besideOf 85 = .ok (.iload 7, 2) := dk_21 7 (dk_at dksX0_besideOf_3 15 rfl rfl)
theorem dX0_besideOf_87 : decode cX0_besideOf 87 = .ok (.iload_n 2, 1) := dk_28 (dk_at dksX0_besideOf_3 17 rfl rfl)
theorem dX0_besideOf_88 : decode cX0_besideOf 88 = .ok (.if_icmp .ne 7, 3) := dk_160 0 7 (dk_at dksX0_besideOf_3 18 rfl rfl)
theorem dX0_besideOf_91 : decode cX0_besideOf 91 = .ok (.iconst 1, 1) := dk_4 (dk_at dksX0_besideOf_3 21 rfl rfl)
theorem dX0_besideOf_92 : decode cX0_besideOf 92 = .ok (.goto 4, 3) := dk_167 0 4 (dk_at dksX0_besideOf_4 0 rfl rfl)
theorem dX0_besideOf_95 : decode cX0_besideOf 95 = .ok (.iconst 0, 1) := dk_3 (dk_at dksX0_besideOf_4 3 rfl rfl)
theorem dX0_besideOf_96 : decode cX0_besideOf 96 = .ok (.iadd, 1) := dk_96 (dk_at dksX0_besideOf_4 4 rfl rfl)
theorem dX0_besideOf_97 : decode cX0_besideOf 97 = .ok (.istore_n 3, 1) := dk_62 (dk_at dksX0_besideOf_4 5 rfl rfl)
theorem dX0_besideOf_98 : decode cX0_besideOf 98 = .ok (.iinc 5 1, 3) := dk_132 5 1 (dk_at dksX0_besideOf_4 6 rfl rfl)
theorem dX0_besideOf_101 : decode cX0_besideOf 101 = .ok (.goto (-84), 3) := dk_167 255 172 (dk_at dksX0_besideOf_4 9 rfl rfl)
theorem dX0_besideOf_104 : decode cX0_besideOf 104 = .ok (.iinc 4 1, 3) := dk_132 4 1 (dk_at dksX0_besideOf_4 12 rfl rfl)
theorem dX0_besideOf_107 : decode cX0_besideOf 107 = .ok (.goto (-102), 3) := dk_167 255 154 (dk_at dksX0_besideOf_4 15 rfl rfl)
theorem dX0_besideOf_110 : decode cX0_besideOf 110 = .ok (.iload_n 3, 1) := dk_29 (dk_at dksX0_besideOf_4 18 rfl rfl)
theorem dX0_besideOf_111 : decode cX0_besideOf 111 = .ok (.ireturn, 1) := dk_172 (dk_at dksX0_besideOf_4 19 rfl rfl)
abbrev cX0_chance : ByteArray := prog_1_method_20_code
def yX0_chance : MethodName := ⟨RX0, "chance", "(III)J"⟩
def dkwX0_chance_6 : List UInt8 := [55, 12, 167, 255, 234, 29, 154, 0, 8, 22, 6, 167, 0, 5, 22, 8, 22, 10, 109, 173]
abbrev dktX0_chance_6 : List UInt8 := dkwX0_chance_6 ++ []
def dkwX0_chance_5 : List UInt8 := [22, 8, 55, 12, 22, 12, 9, 148, 153, 0, 21, 22, 10, 22, 12, 113, 55, 14, 22, 12, 55, 10, 22, 14]
abbrev dktX0_chance_5 : List UInt8 := dkwX0_chance_5 ++ dktX0_chance_6
def dkwX0_chance_4 : List UInt8 := [20, 0, 99, 148, 156, 0, 7, 10, 167, 0, 10, 22, 4, 22, 4, 10, 101, 105, 55, 8, 22, 6, 55, 10]
abbrev dktX0_chance_4 : List UInt8 := dkwX0_chance_4 ++ dktX0_chance_5
def dkwX0_chance_3 : List UInt8 := [160, 0, 13, 42, 27, 182, 0, 88, 4, 100, 167, 0, 8, 42, 28, 182, 0, 88, 133, 105, 55, 6, 22, 4]
abbrev dktX0_chance_3 : List UInt8 := dkwX0_chance_3 ++ dktX0_chance_4
def dkwX0_chance_2 : List UInt8 := [156, 0, 7, 9, 167, 0, 39, 42, 2, 2, 182, 0, 91, 133, 42, 27, 182, 0, 88, 133, 105, 27, 28]
abbrev dktX0_chance_2 : List UInt8 := dkwX0_chance_2 ++ dktX0_chance_3
def dkwX0_chance_1 : List UInt8 := [184, 0, 5, 154, 0, 7, 20, 0, 94, 173, 42, 182, 0, 96, 133, 55, 4, 22, 4, 20, 0, 99, 148]
abbrev dktX0_chance_1 : List UInt8 := dkwX0_chance_1 ++ dktX0_chance_2
def dkwX0_chance_0 : List UInt8 := [42, 182, 0, 38, 42, 27, 182, 0, 44, 153, 0, 21, 42, 28, 182, 0, 44, 153, 0, 13, 29, 133, 9, 10]
abbrev dktX0_chance_0 : List UInt8 := dkwX0_chance_0 ++ dktX0_chance_1
theorem dksX0_chance_0 : cX0_chance.data.toList.drop 0 = dktX0_chance_0 := by decide +kernel
theorem dksX0_chance_1 : cX0_chance.data.toList.drop 24 = dktX0_chance_1 := dk_seg dksX0_chance_0 24 rfl rfl
theorem dksX0_chance_2 : cX0_chance.data.toList.drop 47 = dktX0_chance_2 := dk_seg dksX0_chance_1 23 rfl rfl
theorem dksX0_chance_3 : cX0_chance.data.toList.drop 70 = dktX0_chance_3 := dk_seg dksX0_chance_2 23 rfl rfl
theorem dksX0_chance_4 : cX0_chance.data.toList.drop 94 = dktX0_chance_4 := dk_seg dksX0_chance_3 24 rfl rfl
theorem dksX0_chance_5 : cX0_chance.data.toList.drop 118 = dktX0_chance_5 := dk_seg dksX0_chance_4 24 rfl rfl
theorem dksX0_chance_6 : cX0_chance.data.toList.drop 142 = dktX0_chance_6 := dk_seg dksX0_chance_5 24 rfl rfl
theorem dX0_chance_0 : decode cX0_chance 0 = .ok (.aload_n 0, 1) := dk_42 (dk_at dksX0_chance_0 0 rfl rfl)
theorem dX0_chance_1 : decode cX0_chance 1 = .ok (.invokevirtual 38, 3) := dk_182 0 38 (dk_at dksX0_chance_0 1 rfl rfl)
theorem dX0_chance_4 : decode cX0_chance 4 = .ok (.aload_n 0, 1) := dk_42 (dk_at dksX0_chance_0 4 rfl rfl)
theorem dX0_chance_5 : decode cX0_chance 5 = .ok (.iload_n 1, 1) := dk_27 (dk_at dksX0_chance_0 5 rfl rfl)
theorem dX0_chance_6 : decode cX0_chance 6 = .ok (.invokevirtual 44, 3) := dk_182 0 44 (dk_at dksX0_chance_0 6 rfl rfl)
theorem dX0_chance_9 : decode cX0_chance 9 = .ok (.ifCond .eq 21, 3) := dk_153 0 21 (dk_at dksX0_chance_0 9 rfl rfl)
theorem dX0_chance_12 : decode cX0_chance 12 = .ok (.aload_n 0, 1) := dk_42 (dk_at dksX0_chance_0 12 rfl rfl)
theorem dX0_chance_13 : decode cX0_chance 13 = .ok (.iload_n 2, 1) := dk_28 (dk_at dksX0_chance_0 13 rfl rfl)
theorem dX0_chance_14 : decode cX0_chance 14 = .ok (.invokevirtual 44, 3) := dk_182 0 44 (dk_at dksX0_chance_0 14 rfl rfl)
theorem dX0_chance_17 : decode cX0_chance 17 = .ok (.ifCond .eq 13, 3) := dk_153 0 13 (dk_at dksX0_chance_0 17 rfl rfl)
theorem dX0_chance_20 : decode cX0_chance 20 = .ok (.iload_n 3, 1) := dk_29 (dk_at dksX0_chance_0 20 rfl rfl)
theorem dX0_chance_21 : decode cX0_chance 21 = .ok (.i2l, 1) := dk_133 (dk_at dksX0_chance_0 21 rfl rfl)
theorem dX0_chance_22 : decode cX0_chance 22 = .ok (.lconst 0, 1) := dk_9 (dk_at dksX0_chance_0 22 rfl rfl)
theorem dX0_chance_23 : decode cX0_chance 23 = .ok (.lconst 1, 1) := dk_10 (dk_at dksX0_chance_0 23 rfl rfl)
theorem dX0_chance_24 : decode cX0_chance 24 = .ok (.invokestatic 5, 3) := dk_184 0 5 (dk_at dksX0_chance_1 0 rfl rfl)
theorem dX0_chance_27 : decode cX0_chance 27 = .ok (.ifCond .ne 7, 3) := dk_154 0 7 (dk_at dksX0_chance_1 3 rfl rfl)
theorem dX0_chance_30 : decode cX0_chance 30 = .ok (.ldc2_w 94, 3) := dk_20 0 94 (dk_at dksX0_chance_1 6 rfl rfl)
theorem dX0_chance_33 : decode cX0_chance 33 = .ok (.lreturn, 1) := dk_173 (dk_at dksX0_chance_1 9 rfl rfl)
theorem dX0_chance_34 : decode cX0_chance 34 = .ok (.aload_n 0, 1) := dk_42 (dk_at dksX0_chance_1 10 rfl rfl)
theorem dX0_chance_35 : decode cX0_chance 35 = .ok (.invokevirtual 96, 3) := dk_182 0 96 (dk_at dksX0_chance_1 11 rfl rfl)
theorem dX0_chance_38 : decode cX0_chance 38 = .ok (.i2l, 1) := dk_133 (dk_at dksX0_chance_1 14 rfl rfl)
theorem dX0_chance_39 : decode cX0_chance 39 = .ok (.lstore 4, 2) := dk_55 4 (dk_at dksX0_chance_1 15 rfl rfl)
theorem dX0_chance_41 : decode cX0_chance 41 = .ok (.lload 4, 2) := dk_22 4 (dk_at dksX0_chance_1 17 rfl rfl)
theorem dX0_chance_43 : decode cX0_chance 43 = .ok (.ldc2_w 99, 3) := dk_20 0 99 (dk_at dksX0_chance_1 19 rfl rfl)
theorem dX0_chance_46 : decode cX0_chance 46 = .ok (.lcmp, 1) := dk_148 (dk_at dksX0_chance_1 22 rfl rfl)
theorem dX0_chance_47 : decode cX0_chance 47 = .ok (.ifCond .ge 7, 3) := dk_156 0 7 (dk_at dksX0_chance_2 0 rfl rfl)
theorem dX0_chance_50 : decode cX0_chance 50 = .ok (.lconst 0, 1) := dk_9 (dk_at dksX0_chance_2 3 rfl rfl)
theorem dX0_chance_51 : decode cX0_chance 51 = .ok (.goto 39, 3) := dk_167 0 39 (dk_at dksX0_chance_2 4 rfl rfl)
theorem dX0_chance_54 : decode cX0_chance 54 = .ok (.aload_n 0, 1) := dk_42 (dk_at dksX0_chance_2 7 rfl rfl)
theorem dX0_chance_55 : decode cX0_chance 55 = .ok (.iconst (-1), 1) := dk_2 (dk_at dksX0_chance_2 8 rfl rfl)
theorem dX0_chance_56 : decode cX0_chance 56 = .ok (.iconst (-1), 1) := dk_2 (dk_at dksX0_chance_2 9 rfl rfl)
theorem dX0_chance_57 : decode cX0_chance 57 = .ok (.invokevirtual 91, 3) := dk_182 0 91 (dk_at dksX0_chance_2 10 rfl rfl)
theorem dX0_chance_60 : decode cX0_chance 60 = .ok (.i2l, 1) := dk_133 (dk_at dksX0_chance_2 13 rfl rfl)
theorem dX0_chance_61 : decode cX0_chance 61 = .ok (.aload_n 0, 1) := dk_42 (dk_at dksX0_chance_2 14 rfl rfl)
theorem dX0_chance_62 : decode cX0_chance 62 = .ok (.iload_n 1, 1) := dk_27 (dk_at dksX0_chance_2 15 rfl rfl)
theorem dX0_chance_63 : decode cX0_chance 63 = .ok (.invokevirtual 88, 3) := dk_182 0 88 (dk_at dksX0_chance_2 16 rfl rfl)
theorem dX0_chance_66 : decode cX0_chance 66 = .ok (.i2l, 1) := dk_133 (dk_at dksX0_chance_2 19 rfl rfl)
theorem dX0_chance_67 : decode cX0_chance 67 = .ok (.lmul, 1) := dk_105 (dk_at dksX0_chance_2 20 rfl rfl)
theorem dX0_chance_68 : decode cX0_chance 68 = .ok (.iload_n 1, 1) := dk_27 (dk_at dksX0_chance_2 21 rfl rfl)
theorem dX0_chance_69 : decode cX0_chance 69 = .ok (.iload_n 2, 1) := dk_28 (dk_at dksX0_chance_2 22 rfl rfl)
theorem dX0_chance_70 : decode cX0_chance 70 = .ok (.if_icmp .ne 13, 3) := dk_160 0 13 (dk_at dksX0_chance_3 0 rfl rfl)
theorem dX0_chance_73 : decode cX0_chance 73 = .ok (.aload_n 0, 1) := dk_42 (dk_at dksX0_chance_3 3 rfl rfl)
theorem dX0_chance_74 : decode cX0_chance 74 = .ok (.iload_n 1, 1) := dk_27 (dk_at dksX0_chance_3 4 rfl rfl)
theorem dX0_chance_75 : decode cX0_chance 75 = .ok (.invokevirtual 88, 3) := dk_182 0 88 (dk_at dksX0_chance_3 5 rfl rfl)
theorem dX0_chance_78 : decode cX0_chance 78 = .ok (.iconst 1, 1) := dk_4 (dk_at dksX0_chance_3 8 rfl rfl)
theorem dX0_chance_79 : decode cX0_chance 79 = .ok (.isub, 1) := dk_100 (dk_at dksX0_chance_3 9 rfl rfl)
theorem dX0_chance_80 : decode cX0_chance 80 = .ok (.goto 8, 3) := dk_167 0 8 (dk_at dksX0_chance_3 10 rfl rfl)
theorem dX0_chance_83 : decode cX0_chance 83 = .ok (.aload_n 0, 1) := dk_42 (dk_at dksX0_chance_3 13 rfl rfl)
theorem dX0_chance_84 : decode cX0_chance 84 = .ok (.iload_n 2, 1) := dk_28 (dk_at dksX0_chance_3 14 rfl rfl)
theorem dX0_chance_85 : decode cX0_chance 85 = .ok (.invokevirtual 88, 3) := dk_182 0 88 (dk_at dksX0_chance_3 15 rfl rfl)
theorem dX0_chance_88 : decode cX0_chance 88 = .ok (.i2l, 1) := dk_133 (dk_at dksX0_chance_3 18 rfl rfl)
theorem dX0_chance_89 : decode cX0_chance 89 = .ok (.lmul, 1) := dk_105 (dk_at dksX0_chance_3 19 rfl rfl)
theorem dX0_chance_90 : decode cX0_chance 90 = .ok (.lstore 6, 2) := dk_55 6 (dk_at dksX0_chance_3 20 rfl rfl)
theorem dX0_chance_92 : decode cX0_chance 92 = .ok (.lload 4, 2) := dk_22 4 (dk_at dksX0_chance_3 22 rfl rfl)
theorem dX0_chance_94 : decode cX0_chance 94 = .ok (.ldc2_w 99, 3) := dk_20 0 99 (dk_at dksX0_chance_4 0 rfl rfl)
theorem dX0_chance_97 : decode cX0_chance 97 = .ok (.lcmp, 1) := dk_148 (dk_at dksX0_chance_4 3 rfl rfl)
theorem dX0_chance_98 : decode cX0_chance 98 = .ok (.ifCond .ge 7, 3) := dk_156 0 7 (dk_at dksX0_chance_4 4 rfl rfl)
theorem dX0_chance_101 : decode cX0_chance 101 = .ok (.lconst 1, 1) := dk_10 (dk_at dksX0_chance_4 7 rfl rfl)
theorem dX0_chance_102 : decode cX0_chance 102 = .ok (.goto 10, 3) := dk_167 0 10 (dk_at dksX0_chance_4 8 rfl rfl)
theorem dX0_chance_105 : decode cX0_chance 105 = .ok (.lload 4, 2) := dk_22 4 (dk_at dksX0_chance_4 11 rfl rfl)
theorem dX0_chance_107 : decode cX0_chance 107 = .ok (.lload 4, 2) := dk_22 4 (dk_at dksX0_chance_4 13 rfl rfl)
theorem dX0_chance_109 : decode cX0_chance 109 = .ok (.lconst 1, 1) := dk_10 (dk_at dksX0_chance_4 15 rfl rfl)
theorem dX0_chance_110 : decode cX0_chance 110 = .ok (.lsub, 1) := dk_101 (dk_at dksX0_chance_4 16 rfl rfl)
theorem dX0_chance_111 : decode cX0_chance 111 = .ok (.lmul, 1) := dk_105 (dk_at dksX0_chance_4 17 rfl rfl)
theorem dX0_chance_112 : decode cX0_chance 112 = .ok (.lstore 8, 2) := dk_55 8 (dk_at dksX0_chance_4 18 rfl rfl)
theorem dX0_chance_114 : decode cX0_chance 114 = .ok (.lload 6, 2) := dk_22 6 (dk_at dksX0_chance_4 20 rfl rfl)
theorem dX0_chance_116 : decode cX0_chance 116 = .ok (.lstore 10, 2) := dk_55 10 (dk_at dksX0_chance_4 22 rfl rfl)
theorem dX0_chance_118 : decode cX0_chance 118 = .ok (.lload 8, 2) := dk_22 8 (dk_at dksX0_chance_5 0 rfl rfl)
theorem dX0_chance_120 : decode cX0_chance 120 = .ok (.lstore 12, 2) := dk_55 12 (dk_at dksX0_chance_5 2 rfl rfl)
theorem dX0_chance_122 : decode cX0_chance 122 = .ok (.lload 12, 2) := dk_22 12 (dk_at dksX0_chance_5 4 rfl rfl)
theorem dX0_chance_124 : decode cX0_chance 124 = .ok (.lconst 0, 1) := dk_9 (dk_at dksX0_chance_5 6 rfl rfl)
theorem dX0_chance_125 : decode cX0_chance 125 = .ok (.lcmp, 1) := dk_148 (dk_at dksX0_chance_5 7 rfl rfl)
theorem dX0_chance_126 : decode cX0_chance 126 = .ok (.ifCond .eq 21, 3) := dk_153 0 21 (dk_at dksX0_chance_5 8 rfl rfl)
theorem dX0_chance_129 : decode cX0_chance 129 = .ok (.lload 10, 2) := dk_22 10 (dk_at dksX0_chance_5 11 rfl rfl)
theorem dX0_chance_131 : decode cX0_chance 131 = .ok (.lload 12, 2) := dk_22 12 (dk_at dksX0_chance_5 13 rfl rfl)
theorem dX0_chance_133 : decode cX0_chance 133 = .ok (.lrem, 1) := dk_113 (dk_at dksX0_chance_5 15 rfl rfl)
theorem dX0_chance_134 : decode cX0_chance 134 = .ok (.lstore 14, 2) := dk_55 14 (dk_at dksX0_chance_5 16 rfl rfl)
theorem dX0_chance_136 : decode cX0_chance 136 = .ok (.lload 12, 2) := dk_22 12 (dk_at dksX0_chance_5 18 rfl rfl)
theorem dX0_chance_138 : decode cX0_chance 138 = .ok (.lstore 10, 2) := dk_55 10 (dk_at dksX0_chance_5 20 rfl rfl)
theorem dX0_chance_140 : decode cX0_chance 140 = .ok (.lload 14, 2) := dk_22 14 (dk_at dksX0_chance_5 22 rfl rfl)
theorem dX0_chance_142 : decode cX0_chance 142 = .ok (.lstore 12, 2) := dk_55 12 (dk_at dksX0_chance_6 0 rfl rfl)
theorem dX0_chance_144 : decode cX0_chance 144 = .ok (.goto (-22), 3) := dk_167 255 234 (dk_at dksX0_chance_6 2 rfl rfl)
theorem dX0_chance_147 : decode cX0_chance 147 = .ok (.iload_n 3, 1) := dk_29 (dk_at dksX0_chance_6 5 rfl rfl)
theorem dX0_chance_148 : decode cX0_chance 148 = .ok (.ifCond .ne 8, 3) := dk_154 0 8 (dk_at dksX0_chance_6 6 rfl rfl)
theorem dX0_chance_151 : decode cX0_chance 151 = .ok (.lload 6, 2) := dk_22 6 (dk_at dksX0_chance_6 9 rfl rfl)
theorem dX0_chance_153 : decode cX0_chance 153 = .ok (.goto 5, 3) := dk_167 0 5 (dk_at dksX0_chance_6 11 rfl rfl)
theorem dX0_chance_156 : decode cX0_chance 156 = .ok (.lload 8, 2) := dk_22 8 (dk_at dksX0_chance_6 14 rfl rfl)
theorem dX0_chance_158 : decode cX0_chance 158 = .ok (.lload 10, 2) := dk_22 10 (dk_at dksX0_chance_6 16 rfl rfl)
theorem dX0_chance_160 : decode cX0_chance 160 = .ok (.ldiv, 1) := dk_109 (dk_at dksX0_chance_6 18 rfl rfl)
theorem dX0_chance_161 : decode cX0_chance 161 = .ok (.lreturn, 1) := dk_173 (dk_at dksX0_chance_6 19 rfl rfl)
abbrev cX0_allSigns : ByteArray := prog_1_method_19_code
def yX0_allSigns : MethodName := ⟨RX0, "allSigns", "()I"⟩
def dkwX0_allSigns_2 : List UInt8 := [4, 167, 0, 4, 3, 96, 60, 132, 5, 1, 167, 255, 227, 132, 2, 1, 167, 255, 196, 27, 172]
abbrev dktX0_allSigns_2 : List UInt8 := dkwX0_allSigns_2 ++ []
def dkwX0_allSigns_1 : List UInt8 := [54, 4, 3, 54, 5, 21, 5, 21, 4, 162, 0, 28, 45, 21, 5, 46, 54, 6, 27, 21, 6, 155, 0, 7]
abbrev dktX0_allSigns_1 : List UInt8 := dkwX0_allSigns_1 ++ dktX0_allSigns_2
def dkwX0_allSigns_0 : List UInt8 := [3, 60, 3, 61, 28, 42, 180, 0, 50, 162, 0, 58, 42, 180, 0, 61, 28, 50, 180, 0, 53, 78, 45, 190]
abbrev dktX0_allSigns_0 : List UInt8 := dkwX0_allSigns_0 ++ dktX0_allSigns_1
theorem dksX0_allSigns_0 : cX0_allSigns.data.toList.drop 0 = dktX0_allSigns_0 := by decide +kernel
theorem dksX0_allSigns_1 : cX0_allSigns.data.toList.drop 24 = dktX0_allSigns_1 := dk_seg dksX0_allSigns_0 24 rfl rfl
theorem dksX0_allSigns_2 : cX0_allSigns.data.toList.drop 48 = dktX0_allSigns_2 := dk_seg dksX0_allSigns_1 24 rfl rfl
theorem dX0_allSigns_0 : decode cX0_allSigns 0 = .ok (.iconst 0, 1) := dk_3 (dk_at dksX0_allSigns_0 0 rfl rfl)
theorem dX0_allSigns_1 : decode cX0_allSigns 1 = .ok (.istore_n 1, 1) := dk_60 (dk_at dksX0_allSigns_0 1 rfl rfl)
theorem dX0_allSigns_2 : decode cX0_allSigns 2 = .ok (.iconst 0, 1) := dk_3 (dk_at dksX0_allSigns_0 2 rfl rfl)
theorem dX0_allSigns_3 : decode cX0_allSigns 3 = .ok (.istore_n 2, 1) := dk_61 (dk_at dksX0_allSigns_0 3 rfl rfl)
theorem dX0_allSigns_4 : decode cX0_allSigns 4 = .ok (.iload_n 2, 1) := dk_28 (dk_at dksX0_allSigns_0 4 rfl rfl)
theorem dX0_allSigns_5 : decode cX0_allSigns 5 = .ok (.aload_n 0, 1) := dk_42 (dk_at dksX0_allSigns_0 5 rfl rfl)
theorem dX0_allSigns_6 : decode cX0_allSigns 6 = .ok (.getfield 50, 3) := dk_180 0 50 (dk_at dksX0_allSigns_0 6 rfl rfl)
theorem dX0_allSigns_9 : decode cX0_allSigns 9 = .ok (.if_icmp .ge 58, 3) := dk_162 0 58 (dk_at dksX0_allSigns_0 9 rfl rfl)
theorem dX0_allSigns_12 : decode cX0_allSigns 12 = .ok (.aload_n 0, 1) := dk_42 (dk_at dksX0_allSigns_0 12 rfl rfl)
theorem dX0_allSigns_13 : decode cX0_allSigns 13 = .ok (.getfield 61, 3) := dk_180 0 61 (dk_at dksX0_allSigns_0 13 rfl rfl)
theorem dX0_allSigns_16 : decode cX0_allSigns 16 = .ok (.iload_n 2, 1) := dk_28 (dk_at dksX0_allSigns_0 16 rfl rfl)
theorem dX0_allSigns_17 : decode cX0_allSigns 17 = .ok (.aaload, 1) := dk_50 (dk_at dksX0_allSigns_0 17 rfl rfl)
theorem dX0_allSigns_18 : decode cX0_allSigns 18 = .ok (.getfield 53, 3) := dk_180 0 53 (dk_at dksX0_allSigns_0 18 rfl rfl)
theorem dX0_allSigns_21 : decode cX0_allSigns 21 = .ok (.astore_n 3, 1) := dk_78 (dk_at dksX0_allSigns_0 21 rfl rfl)
theorem dX0_allSigns_22 : decode cX0_allSigns 22 = .ok (.aload_n 3, 1) := dk_45 (dk_at dksX0_allSigns_0 22 rfl rfl)
theorem dX0_allSigns_23 : decode cX0_allSigns 23 = .ok (.arraylength, 1) := dk_190 (dk_at dksX0_allSigns_0 23 rfl rfl)
theorem dX0_allSigns_24 : decode cX0_allSigns 24 = .ok (.istore 4, 2) := dk_54 4 (dk_at dksX0_allSigns_1 0 rfl rfl)
theorem dX0_allSigns_26 : decode cX0_allSigns 26 = .ok (.iconst 0, 1) := dk_3 (dk_at dksX0_allSigns_1 2 rfl rfl)
theorem dX0_allSigns_27 : decode cX0_allSigns 27 = .ok (.istore 5, 2) := dk_54 5 (dk_at dksX0_allSigns_1 3 rfl rfl)
theorem dX0_allSigns_29 : decode cX0_allSigns 29 = .ok (.iload 5, 2) := dk_21 5 (dk_at dksX0_allSigns_1 5 rfl rfl)
theorem dX0_allSigns_31 : decode cX0_allSigns 31 = .ok (.iload 4, 2) := dk_21 4 (dk_at dksX0_allSigns_1 7 rfl rfl)
theorem dX0_allSigns_33 : decode cX0_allSigns 33 = .ok (.if_icmp .ge 28, 3) := dk_162 0 28 (dk_at dksX0_allSigns_1 9 rfl rfl)
theorem dX0_allSigns_36 : decode cX0_allSigns 36 = .ok (.aload_n 3, 1) := dk_45 (dk_at dksX0_allSigns_1 12 rfl rfl)
theorem dX0_allSigns_37 : decode cX0_allSigns 37 = .ok (.iload 5, 2) := dk_21 5 (dk_at dksX0_allSigns_1 13 rfl rfl)
theorem dX0_allSigns_39 : decode cX0_allSigns 39 = .ok (.iaload, 1) := dk_46 (dk_at dksX0_allSigns_1 15 rfl rfl)
theorem dX0_allSigns_40 : decode cX0_allSigns 40 = .ok (.istore 6, 2) := dk_54 6 (dk_at dksX0_allSigns_1 16 rfl rfl)
theorem dX0_allSigns_42 : decode cX0_allSigns 42 = .ok (.iload_n 1, 1) := dk_27 (dk_at dksX0_allSigns_1 18 rfl rfl)
theorem dX0_allSigns_43 : decode cX0_allSigns 43 = .ok (.iload 6, 2) := dk_21 6 (dk_at dksX0_allSigns_1 19 rfl rfl)
theorem dX0_allSigns_45 : decode cX0_allSigns 45 = .ok (.ifCond .lt 7, 3) := dk_155 0 7 (dk_at dksX0_allSigns_1 21 rfl rfl)
theorem dX0_allSigns_48 : decode cX0_allSigns 48 = .ok (.iconst 1, 1) := dk_4 (dk_at dksX0_allSigns_2 0 rfl rfl)
theorem dX0_allSigns_49 : decode cX0_allSigns 49 = .ok (.goto 4, 3) := dk_167 0 4 (dk_at dksX0_allSigns_2 1 rfl rfl)
theorem dX0_allSigns_52 : decode cX0_allSigns 52 = .ok (.iconst 0, 1) := dk_3 (dk_at dksX0_allSigns_2 4 rfl rfl)
theorem dX0_allSigns_53 : decode cX0_allSigns 53 = .ok (.iadd, 1) := dk_96 (dk_at dksX0_allSigns_2 5 rfl rfl)
theorem dX0_allSigns_54 : decode cX0_allSigns 54 = .ok (.istore_n 1, 1) := dk_60 (dk_at dksX0_allSigns_2 6 rfl rfl)
theorem dX0_allSigns_55 : decode cX0_allSigns 55 = .ok (.iinc 5 1, 3) := dk_132 5 1 (dk_at dksX0_allSigns_2 7 rfl rfl)
theorem dX0_allSigns_58 : decode cX0_allSigns 58 = .ok (.goto (-29), 3) := dk_167 255 227 (dk_at dksX0_allSigns_2 10 rfl rfl)
theorem dX0_allSigns_61 : decode cX0_allSigns 61 = .ok (.iinc 2 1, 3) := dk_132 2 1 (dk_at dksX0_allSigns_2 13 rfl rfl)
theorem dX0_allSigns_64 : decode cX0_allSigns 64 = .ok (.goto (-60), 3) := dk_167 255 196 (dk_at dksX0_allSigns_2 16 rfl rfl)
theorem dX0_allSigns_67 : decode cX0_allSigns 67 = .ok (.iload_n 1, 1) := dk_27 (dk_at dksX0_allSigns_2 19 rfl rfl)
theorem dX0_allSigns_68 : decode cX0_allSigns 68 = .ok (.ireturn, 1) := dk_172 (dk_at dksX0_allSigns_2 20 rfl rfl)
abbrev cX0_runs : ByteArray := prog_1_method_21_code
def yX0_runs : MethodName := ⟨RX0, "runs", "(I)I"⟩
def dkwX0_runs_8 : List UInt8 := [160, 0, 7, 28, 167, 0, 17, 27, 5, 160, 0, 7, 29, 167, 0, 8, 29, 28, 184, 0, 113, 172]
abbrev dktX0_runs_8 : List UInt8 := dkwX0_runs_8 ++ []
def dkwX0_runs_7 : List UInt8 := [180, 0, 110, 21, 4, 46, 42, 180, 0, 110, 21, 4, 46, 104, 96, 62, 132, 4, 1, 167, 255, 210, 27, 4]
abbrev dktX0_runs_7 : List UInt8 := dkwX0_runs_7 ++ dktX0_runs_8
def dkwX0_runs_6 : List UInt8 := [162, 0, 45, 28, 42, 180, 0, 101, 21, 4, 46, 42, 180, 0, 101, 21, 4, 46, 104, 96, 61, 29, 42]
abbrev dktX0_runs_6 : List UInt8 := dkwX0_runs_6 ++ dktX0_runs_7
def dkwX0_runs_5 : List UInt8 := [132, 4, 1, 167, 255, 191, 132, 2, 1, 167, 255, 167, 3, 61, 3, 62, 3, 54, 4, 21, 4, 16, 24]
abbrev dktX0_runs_5 : List UInt8 := dkwX0_runs_5 ++ dktX0_runs_6
def dkwX0_runs_4 : List UInt8 := [92, 46, 4, 96, 79, 42, 180, 0, 110, 42, 45, 21, 5, 4, 100, 182, 0, 71, 92, 46, 4, 96, 79]
abbrev dktX0_runs_4 : List UInt8 := dkwX0_runs_4 ++ dktX0_runs_5
def dkwX0_runs_3 : List UInt8 := [54, 5, 45, 21, 4, 21, 5, 182, 0, 78, 153, 0, 37, 42, 180, 0, 101, 42, 45, 21, 4, 182, 0, 71]
abbrev dktX0_runs_3 : List UInt8 := dkwX0_runs_3 ++ dktX0_runs_4
def dkwX0_runs_2 : List UInt8 := [180, 0, 61, 28, 50, 78, 3, 54, 4, 21, 4, 45, 182, 0, 67, 162, 0, 62, 45, 21, 4, 182, 0, 75]
abbrev dktX0_runs_2 : List UInt8 := dkwX0_runs_2 ++ dktX0_runs_3
def dkwX0_runs_1 : List UInt8 := [184, 0, 104, 42, 180, 0, 110, 3, 184, 0, 104, 3, 61, 28, 42, 180, 0, 50, 162, 0, 87, 42]
abbrev dktX0_runs_1 : List UInt8 := dkwX0_runs_1 ++ dktX0_runs_2
def dkwX0_runs_0 : List UInt8 := [27, 133, 9, 20, 0, 99, 184, 0, 5, 154, 0, 6, 16, 246, 172, 42, 182, 0, 38, 42, 180, 0, 101, 3]
abbrev dktX0_runs_0 : List UInt8 := dkwX0_runs_0 ++ dktX0_runs_1
theorem dksX0_runs_0 : cX0_runs.data.toList.drop 0 = dktX0_runs_0 := by decide +kernel
theorem dksX0_runs_1 : cX0_runs.data.toList.drop 24 = dktX0_runs_1 := dk_seg dksX0_runs_0 24 rfl rfl
theorem dksX0_runs_2 : cX0_runs.data.toList.drop 46 = dktX0_runs_2 := dk_seg dksX0_runs_1 22 rfl rfl
theorem dksX0_runs_3 : cX0_runs.data.toList.drop 70 = dktX0_runs_3 := dk_seg dksX0_runs_2 24 rfl rfl
theorem dksX0_runs_4 : cX0_runs.data.toList.drop 94 = dktX0_runs_4 := dk_seg dksX0_runs_3 24 rfl rfl
theorem dksX0_runs_5 : cX0_runs.data.toList.drop 117 = dktX0_runs_5 := dk_seg dksX0_runs_4 23 rfl rfl
theorem dksX0_runs_6 : cX0_runs.data.toList.drop 140 = dktX0_runs_6 := dk_seg dksX0_runs_5 23 rfl rfl
theorem dksX0_runs_7 : cX0_runs.data.toList.drop 163 = dktX0_runs_7 := dk_seg dksX0_runs_6 23 rfl rfl
theorem dksX0_runs_8 : cX0_runs.data.toList.drop 187 = dktX0_runs_8 := dk_seg dksX0_runs_7 24 rfl rfl
theorem dX0_runs_0 : decode cX0_runs 0 = .ok (.iload_n 1, 1) := dk_27 (dk_at dksX0_runs_0 0 rfl rfl)
theorem dX0_runs_1 : decode cX0_runs 1 = .ok (.i2l, 1) := dk_133 (dk_at dksX0_runs_0 1 rfl rfl)
theorem dX0_runs_2 : decode cX0_runs 2 = .ok (.lconst 0, 1) := dk_9 (dk_at dksX0_runs_0 2 rfl rfl)
theorem dX0_runs_3 : decode cX0_runs 3 = .ok (.ldc2_w 99, 3) := dk_20 0 99 (dk_at dksX0_runs_0 3 rfl rfl)
theorem dX0_runs_6 : decode cX0_runs 6 = .ok (.invokestatic 5, 3) := dk_184 0 5 (dk_at dksX0_runs_0 6 rfl rfl)
theorem dX0_runs_9 : decode cX0_runs 9 = .ok (.ifCond .ne 6, 3) := dk_154 0 6 (dk_at dksX0_runs_0 9 rfl rfl)
theorem dX0_runs_12 : decode cX0_runs 12 = .ok (.bipush (-10), 2) := dk_16 246 (dk_at dksX0_runs_0 12 rfl rfl)
theorem dX0_runs_14 : decode cX0_runs 14 = .ok (.ireturn, 1) := dk_172 (dk_at dksX0_runs_0 14 rfl rfl)
theorem dX0_runs_15 : decode cX0_runs 15 = .ok (.aload_n 0, 1) := dk_42 (dk_at dksX0_runs_0 15 rfl rfl)
theorem dX0_runs_16 : decode cX0_runs 16 = .ok (.invokevirtual 38, 3) := dk_182 0 38 (dk_at dksX0_runs_0 16 rfl rfl)
theorem dX0_runs_19 : decode cX0_runs 19 = .ok (.aload_n 0, 1) := dk_42 (dk_at dksX0_runs_0 19 rfl rfl)
theorem dX0_runs_20 : decode cX0_runs 20 = .ok (.getfield 101, 3) := dk_180 0 101 (dk_at dksX0_runs_0 20 rfl rfl)
theorem dX0_runs_23 : decode cX0_runs 23 = .ok (.iconst 0, 1) := dk_3 (dk_at dksX0_runs_0 23 rfl rfl)
theorem dX0_runs_24 : decode cX0_runs 24 = .ok (.invokestatic 104, 3) := dk_184 0 104 (dk_at dksX0_runs_1 0 rfl rfl)
theorem dX0_runs_27 : decode cX0_runs 27 = .ok (.aload_n 0, 1) := dk_42 (dk_at dksX0_runs_1 3 rfl rfl)
theorem dX0_runs_28 : decode cX0_runs 28 = .ok (.getfield 110, 3) := dk_180 0 110 (dk_at dksX0_runs_1 4 rfl rfl)
theorem dX0_runs_31 : decode cX0_runs 31 = .ok (.iconst 0, 1) := dk_3 (dk_at dksX0_runs_1 7 rfl rfl)
theorem dX0_runs_32 : decode cX0_runs 32 = .ok (.invokestatic 104, 3) := dk_184 0 104 (dk_at dksX0_runs_1 8 rfl rfl)
theorem dX0_runs_35 : decode cX0_runs 35 = .ok (.iconst 0, 1) := dk_3 (dk_at dksX0_runs_1 11 rfl rfl)
theorem dX0_runs_36 : decode cX0_runs 36 = .ok (.istore_n 2, 1) := dk_61 (dk_at dksX0_runs_1 12 rfl rfl)
theorem dX0_runs_37 : decode cX0_runs 37 = .ok (.iload_n 2, 1) := dk_28 (dk_at dksX0_runs_1 13 rfl rfl)
theorem dX0_runs_38 : decode cX0_runs 38 = .ok (.aload_n 0, 1) := dk_42 (dk_at dksX0_runs_1 14 rfl rfl)
theorem dX0_runs_39 : decode cX0_runs 39 = .ok (.getfield 50, 3) := dk_180 0 50 (dk_at dksX0_runs_1 15 rfl rfl)
theorem dX0_runs_42 : decode cX0_runs 42 = .ok (.if_icmp .ge 87, 3) := dk_162 0 87 (dk_at dksX0_runs_1 18 rfl rfl)
theorem dX0_runs_45 : decode cX0_runs 45 = .ok (.aload_n 0, 1) := dk_42 (dk_at dksX0_runs_1 21 rfl rfl)
theorem dX0_runs_46 : decode cX0_runs 46 = .ok (.getfield 61, 3) := dk_180 0 61 (dk_at dksX0_runs_2 0 rfl rfl)
theorem dX0_runs_49 : decode cX0_runs 49 = .ok (.iload_n 2, 1) := dk_28 (dk_at dksX0_runs_2 3 rfl rfl)
theorem dX0_runs_50 : decode cX0_runs 50 = .ok (.aaload, 1) := dk_50 (dk_at dksX0_runs_2 4 rfl rfl)
theorem dX0_runs_51 : decode cX0_runs 51 = .ok (.astore_n 3, 1) := dk_78 (dk_at dksX0_runs_2 5 rfl rfl)
theorem dX0_runs_52 : decode cX0_runs 52 = .ok (.iconst 0, 1) := dk_3 (dk_at dksX0_runs_2 6 rfl rfl)
theorem dX0_runs_53 : decode cX0_runs 53 = .ok (.istore 4, 2) := dk_54 4 (dk_at dksX0_runs_2 7 rfl rfl)
theorem dX0_runs_55 : decode cX0_runs 55 = .ok (.iload 4, 2) := dk_21 4 (dk_at dksX0_runs_2 9 rfl rfl)
theorem dX0_runs_57 : decode cX0_runs 57 = .ok (.aload_n 3, 1) := dk_45 (dk_at dksX0_runs_2 11 rfl rfl)
theorem dX0_runs_58 : decode cX0_runs 58 = .ok (.invokevirtual 67, 3) := dk_182 0 67 (dk_at dksX0_runs_2 12 rfl rfl)
theorem dX0_runs_61 : decode cX0_runs 61 = .ok (.if_icmp .ge 62, 3) := dk_162 0 62 (dk_at dksX0_runs_2 15 rfl rfl)
theorem dX0_runs_64 : decode cX0_runs 64 = .ok (.aload_n 3, 1) := dk_45 (dk_at dksX0_runs_2 18 rfl rfl)
theorem dX0_runs_65 : decode cX0_runs 65 = .ok (.iload 4, 2) := dk_21 4 (dk_at dksX0_runs_2 19 rfl rfl)
theorem dX0_runs_67 : decode cX0_runs 67 = .ok (.invokevirtual 75, 3) := dk_182 0 75 (dk_at dksX0_runs_2 21 rfl rfl)
theorem dX0_runs_70 : decode cX0_runs 70 = .ok (.istore 5, 2) := dk_54 5 (dk_at dksX0_runs_3 0 rfl rfl)
theorem dX0_runs_72 : decode cX0_runs 72 = .ok (.aload_n 3, 1) := dk_45 (dk_at dksX0_runs_3 2 rfl rfl)
theorem dX0_runs_73 : decode cX0_runs 73 = .ok (.iload 4, 2) := dk_21 4 (dk_at dksX0_runs_3 3 rfl rfl)
theorem dX0_runs_75 : decode cX0_runs 75 = .ok (.iload 5, 2) := dk_21 5 (dk_at dksX0_runs_3 5 rfl rfl)
theorem dX0_runs_77 : decode cX0_runs 77 = .ok (.invokevirtual 78, 3) := dk_182 0 78 (dk_at dksX0_runs_3 7 rfl rfl)
theorem dX0_runs_80 : decode cX0_runs 80 = .ok (.ifCond .eq 37, 3) := dk_153 0 37 (dk_at dksX0_runs_3 10 rfl rfl)
theorem dX0_runs_83 : decode cX0_runs 83 = .ok (.aload_n 0, 1) := dk_42 (dk_at dksX0_runs_3 13 rfl rfl)
theorem dX0_runs_84 : decode cX0_runs 84 = .ok (.getfield 101, 3) := dk_180 0 101 (dk_at dksX0_runs_3 14 rfl rfl)
theorem dX0_runs_87 : decode cX0_runs 87 = .ok (.aload_n 0, 1) := dk_42 (dk_at dksX0_runs_3 17 rfl rfl)
theorem dX0_runs_88 : decode cX0_runs 88 = .ok (.aload_n 3, 1) := dk_45 (dk_at dksX0_runs_3 18 rfl rfl)
theorem dX0_runs_89 : decode cX0_runs 89 = .ok (.iload 4, 2) := dk_21 4 (dk_at dksX0_runs_3 19 rfl rfl)
theorem dX0_runs_91 : decode cX0_runs 91 = .ok (.invokevirtual 71, 3) := dk_182 0 71 (dk_at dksX0_runs_3 21 rfl rfl)
theorem dX0_runs_94 : decode cX0_runs 94 = .ok (.dup2, 1) := dk_92 (dk_at dksX0_runs_4 0 rfl rfl)
theorem dX0_runs_95 : decode cX0_runs 95 = .ok (.iaload, 1) := dk_46 (dk_at dksX0_runs_4 1 rfl rfl)
theorem dX0_runs_96 : decode cX0_runs 96 = .ok (.iconst 1, 1) := dk_4 (dk_at dksX0_runs_4 2 rfl rfl)
theorem dX0_runs_97 : decode cX0_runs 97 = .ok (.iadd, 1) := dk_96 (dk_at dksX0_runs_4 3 rfl rfl)
theorem dX0_runs_98 : decode cX0_runs 98 = .ok (.iastore, 1) := dk_79 (dk_at dksX0_runs_4 4 rfl rfl)
theorem dX0_runs_99 : decode cX0_runs 99 = .ok (.aload_n 0, 1) := dk_42 (dk_at dksX0_runs_4 5 rfl rfl)
theorem dX0_runs_100 : decode cX0_runs 100 = .ok (.getfield 110, 3) := dk_180 0 110 (dk_at dksX0_runs_4 6 rfl rfl)
theorem dX0_runs_103 : decode cX0_runs 103 = .ok (.aload_n 0, 1) := dk_42 (dk_at dksX0_runs_4 9 rfl rfl)
theorem dX0_runs_104 : decode cX0_runs 104 = .ok (.aload_n 3, 1) := dk_45 (dk_at dksX0_runs_4 10 rfl rfl)
theorem dX0_runs_105 : decode cX0_runs 105 = .ok (.iload 5, 2) := dk_21 5 (dk_at dksX0_runs_4 11 rfl rfl)
theorem dX0_runs_107 : decode cX0_runs 107 = .ok (.iconst 1, 1) := dk_4 (dk_at dksX0_runs_4 13 rfl rfl)
theorem dX0_runs_108 : decode cX0_runs 108 = .ok (.isub, 1) := dk_100 (dk_at dksX0_runs_4 14 rfl rfl)
theorem dX0_runs_109 : decode cX0_runs 109 = .ok (.invokevirtual 71, 3) := dk_182 0 71 (dk_at dksX0_runs_4 15 rfl rfl)
theorem dX0_runs_112 : decode cX0_runs 112 = .ok (.dup2, 1) := dk_92 (dk_at dksX0_runs_4 18 rfl rfl)
theorem dX0_runs_113 : decode cX0_runs 113 = .ok (.iaload, 1) := dk_46 (dk_at dksX0_runs_4 19 rfl rfl)
theorem dX0_runs_114 : decode cX0_runs 114 = .ok (.iconst 1, 1) := dk_4 (dk_at dksX0_runs_4 20 rfl rfl)
theorem dX0_runs_115 : decode cX0_runs 115 = .ok (.iadd, 1) := dk_96 (dk_at dksX0_runs_4 21 rfl rfl)
theorem dX0_runs_116 : decode cX0_runs 116 = .ok (.iastore, 1) := dk_79 (dk_at dksX0_runs_4 22 rfl rfl)
theorem dX0_runs_117 : decode cX0_runs 117 = .ok (.iinc 4 1, 3) := dk_132 4 1 (dk_at dksX0_runs_5 0 rfl rfl)
theorem dX0_runs_120 : decode cX0_runs 120 = .ok (.goto (-65), 3) := dk_167 255 191 (dk_at dksX0_runs_5 3 rfl rfl)
theorem dX0_runs_123 : decode cX0_runs 123 = .ok (.iinc 2 1, 3) := dk_132 2 1 (dk_at dksX0_runs_5 6 rfl rfl)
theorem dX0_runs_126 : decode cX0_runs 126 = .ok (.goto (-89), 3) := dk_167 255 167 (dk_at dksX0_runs_5 9 rfl rfl)
theorem dX0_runs_129 : decode cX0_runs 129 = .ok (.iconst 0, 1) := dk_3 (dk_at dksX0_runs_5 12 rfl rfl)
theorem dX0_runs_130 : decode cX0_runs 130 = .ok (.istore_n 2, 1) := dk_61 (dk_at dksX0_runs_5 13 rfl rfl)
theorem dX0_runs_131 : decode cX0_runs 131 = .ok (.iconst 0, 1) := dk_3 (dk_at dksX0_runs_5 14 rfl rfl)
theorem dX0_runs_132 : decode cX0_runs 132 = .ok (.istore_n 3, 1) := dk_62 (dk_at dksX0_runs_5 15 rfl rfl)
theorem dX0_runs_133 : decode cX0_runs 133 = .ok (.iconst 0, 1) := dk_3 (dk_at dksX0_runs_5 16 rfl rfl)
theorem dX0_runs_134 : decode cX0_runs 134 = .ok (.istore 4, 2) := dk_54 4 (dk_at dksX0_runs_5 17 rfl rfl)
theorem dX0_runs_136 : decode cX0_runs 136 = .ok (.iload 4, 2) := dk_21 4 (dk_at dksX0_runs_5 19 rfl rfl)
theorem dX0_runs_138 : decode cX0_runs 138 = .ok (.bipush 24, 2) := dk_16 24 (dk_at dksX0_runs_5 21 rfl rfl)
theorem dX0_runs_140 : decode cX0_runs 140 = .ok (.if_icmp .ge 45, 3) := dk_162 0 45 (dk_at dksX0_runs_6 0 rfl rfl)
theorem dX0_runs_143 : decode cX0_runs 143 = .ok (.iload_n 2, 1) := dk_28 (dk_at dksX0_runs_6 3 rfl rfl)
theorem dX0_runs_144 : decode cX0_runs 144 = .ok (.aload_n 0, 1) := dk_42 (dk_at dksX0_runs_6 4 rfl rfl)
theorem dX0_runs_145 : decode cX0_runs 145 = .ok (.getfield 101, 3) := dk_180 0 101 (dk_at dksX0_runs_6 5 rfl rfl)
theorem dX0_runs_148 : decode cX0_runs 148 = .ok (.iload 4, 2) := dk_21 4 (dk_at dksX0_runs_6 8 rfl rfl)
theorem dX0_runs_150 : decode cX0_runs 150 = .ok (.iaload, 1) := dk_46 (dk_at dksX0_runs_6 10 rfl rfl)
theorem dX0_runs_151 : decode cX0_runs 151 = .ok (.aload_n 0, 1) := dk_42 (dk_at dksX0_runs_6 11 rfl rfl)
theorem dX0_runs_152 : decode cX0_runs 152 = .ok (.getfield 101, 3) := dk_180 0 101 (dk_at dksX0_runs_6 12 rfl rfl)
theorem dX0_runs_155 : decode cX0_runs 155 = .ok (.iload 4, 2) := dk_21 4 (dk_at dksX0_runs_6 15 rfl rfl)
theorem dX0_runs_157 : decode cX0_runs 157 = .ok (.iaload, 1) := dk_46 (dk_at dksX0_runs_6 17 rfl rfl)
theorem dX0_runs_158 : decode cX0_runs 158 = .ok (.imul, 1) := dk_104 (dk_at dksX0_runs_6 18 rfl rfl)
theorem dX0_runs_159 : decode cX0_runs 159 = .ok (.iadd, 1) := dk_96 (dk_at dksX0_runs_6 19 rfl rfl)
theorem dX0_runs_160 : decode cX0_runs 160 = .ok (.istore_n 2, 1) := dk_61 (dk_at dksX0_runs_6 20 rfl rfl)
theorem dX0_runs_161 : decode cX0_runs 161 = .ok (.iload_n 3, 1) := dk_29 (dk_at dksX0_runs_6 21 rfl rfl)
theorem dX0_runs_162 : decode cX0_runs 162 = .ok (.aload_n 0, 1) := dk_42 (dk_at dksX0_runs_6 22 rfl rfl)
theorem dX0_runs_163 : decode cX0_runs 163 = .ok (.getfield 110, 3) := dk_180 0 110 (dk_at dksX0_runs_7 0 rfl rfl)
theorem dX0_runs_166 : decode cX0_runs 166 = .ok (.iload 4, 2) := dk_21 4 (dk_at dksX0_runs_7 3 rfl rfl)
theorem dX0_runs_168 : decode cX0_runs 168 = .ok (.iaload, 1) := dk_46 (dk_at dksX0_runs_7 5 rfl rfl)
theorem dX0_runs_169 : decode cX0_runs 169 = .ok (.aload_n 0, 1) := dk_42 (dk_at dksX0_runs_7 6 rfl rfl)
theorem dX0_runs_170 : decode cX0_runs 170 = .ok (.getfield 110, 3) := dk_180 0 110 (dk_at dksX0_runs_7 7 rfl rfl)
theorem dX0_runs_173 : decode cX0_runs 173 = .ok (.iload 4, 2) := dk_21 4 (dk_at dksX0_runs_7 10 rfl rfl)
theorem dX0_runs_175 : decode cX0_runs 175 = .ok (.iaload, 1) := dk_46 (dk_at dksX0_runs_7 12 rfl rfl)
theorem dX0_runs_176 : decode cX0_runs 176 = .ok (.imul, 1) := dk_104 (dk_at dksX0_runs_7 13 rfl rfl)
theorem dX0_runs_177 : decode cX0_runs 177 = .ok (.iadd, 1) := dk_96 (dk_at dksX0_runs_7 14 rfl rfl)
theorem dX0_runs_178 : decode cX0_runs 178 = .ok (.istore_n 3, 1) := dk_62 (dk_at dksX0_runs_7 15 rfl rfl)
theorem dX0_runs_179 : decode cX0_runs 179 = .ok (.iinc 4 1, 3) := dk_132 4 1 (dk_at dksX0_runs_7 16 rfl rfl)
theorem dX0_runs_182 : decode cX0_runs 182 = .ok (.goto (-46), 3) := dk_167 255 210 (dk_at dksX0_runs_7 19 rfl rfl)
theorem dX0_runs_185 : decode cX0_runs 185 = .ok (.iload_n 1, 1) := dk_27 (dk_at dksX0_runs_7 22 rfl rfl)
theorem dX0_runs_186 : decode cX0_runs 186 = .ok (.iconst 1, 1) := dk_4 (dk_at dksX0_runs_7 23 rfl rfl)
theorem dX0_runs_187 : decode cX0_runs 187 = .ok (.if_icmp .ne 7, 3) := dk_160 0 7 (dk_at dksX0_runs_8 0 rfl rfl)
theorem dX0_runs_190 : decode cX0_runs 190 = .ok (.iload_n 2, 1) := dk_28 (dk_at dksX0_runs_8 3 rfl rfl)
theorem dX0_runs_191 : decode cX0_runs 191 = .ok (.goto 17, 3) := dk_167 0 17 (dk_at dksX0_runs_8 4 rfl rfl)
theorem dX0_runs_194 : decode cX0_runs 194 = .ok (.iload_n 1, 1) := dk_27 (dk_at dksX0_runs_8 7 rfl rfl)
theorem dX0_runs_195 : decode cX0_runs 195 = .ok (.iconst 2, 1) := dk_5 (dk_at dksX0_runs_8 8 rfl rfl)
theorem dX0_runs_196 : decode cX0_runs 196 = .ok (.if_icmp .ne 7, 3) := dk_160 0 7 (dk_at dksX0_runs_8 9 rfl rfl)
theorem dX0_runs_199 : decode cX0_runs 199 = .ok (.iload_n 3, 1) := dk_29 (dk_at dksX0_runs_8 12 rfl rfl)
theorem dX0_runs_200 : decode cX0_runs 200 = .ok (.goto 8, 3) := dk_167 0 8 (dk_at dksX0_runs_8 13 rfl rfl)
theorem dX0_runs_203 : decode cX0_runs 203 = .ok (.iload_n 3, 1) := dk_29 (dk_at dksX0_runs_8 16 rfl rfl)
theorem dX0_runs_204 : decode cX0_runs 204 = .ok (.iload_n 2, 1) := dk_28 (dk_at dksX0_runs_8 17 rfl rfl)
theorem dX0_runs_205 : decode cX0_runs 205 = .ok (.invokestatic 113, 3) := dk_184 0 113 (dk_at dksX0_runs_8 18 rfl rfl)
theorem dX0_runs_208 : decode cX0_runs 208 = .ok (.ireturn, 1) := dk_172 (dk_at dksX0_runs_8 21 rfl rfl)
abbrev cX0_akin : ByteArray := prog_1_method_26_code
def yX0_akin : MethodName := ⟨RX0, "akin", "(II)I"⟩
def dkwX0_akin_1 : List UInt8 := [159, 0, 14, 42, 180, 0, 135, 27, 50, 28, 46, 167, 0, 4, 2, 172]
abbrev dktX0_akin_1 : List UInt8 := dkwX0_akin_1 ++ []
def dkwX0_akin_0 : List UInt8 := [42, 182, 0, 148, 42, 27, 182, 0, 44, 153, 0, 27, 42, 28, 182, 0, 44, 153, 0, 19, 27, 28]
abbrev dktX0_akin_0 : List UInt8 := dkwX0_akin_0 ++ dktX0_akin_1
theorem dksX0_akin_0 : cX0_akin.data.toList.drop 0 = dktX0_akin_0 := by decide +kernel
theorem dksX0_akin_1 : cX0_akin.data.toList.drop 22 = dktX0_akin_1 := dk_seg dksX0_akin_0 22 rfl rfl
theorem dX0_akin_0 : decode cX0_akin 0 = .ok (.aload_n 0, 1) := dk_42 (dk_at dksX0_akin_0 0 rfl rfl)
theorem dX0_akin_1 : decode cX0_akin 1 = .ok (.invokevirtual 148, 3) := dk_182 0 148 (dk_at dksX0_akin_0 1 rfl rfl)
theorem dX0_akin_4 : decode cX0_akin 4 = .ok (.aload_n 0, 1) := dk_42 (dk_at dksX0_akin_0 4 rfl rfl)
theorem dX0_akin_5 : decode cX0_akin 5 = .ok (.iload_n 1, 1) := dk_27 (dk_at dksX0_akin_0 5 rfl rfl)
theorem dX0_akin_6 : decode cX0_akin 6 = .ok (.invokevirtual 44, 3) := dk_182 0 44 (dk_at dksX0_akin_0 6 rfl rfl)
theorem dX0_akin_9 : decode cX0_akin 9 = .ok (.ifCond .eq 27, 3) := dk_153 0 27 (dk_at dksX0_akin_0 9 rfl rfl)
theorem dX0_akin_12 : decode cX0_akin 12 = .ok (.aload_n 0, 1) := dk_42 (dk_at dksX0_akin_0 12 rfl rfl)
theorem dX0_akin_13 : decode cX0_akin 13 = .ok (.iload_n 2, 1) := dk_28 (dk_at dksX0_akin_0 13 rfl rfl)
theorem dX0_akin_14 : decode cX0_akin 14 = .ok (.invokevirtual 44, 3) := dk_182 0 44 (dk_at dksX0_akin_0 14 rfl rfl)
theorem dX0_akin_17 : decode cX0_akin 17 = .ok (.ifCond .eq 19, 3) := dk_153 0 19 (dk_at dksX0_akin_0 17 rfl rfl)
theorem dX0_akin_20 : decode cX0_akin 20 = .ok (.iload_n 1, 1) := dk_27 (dk_at dksX0_akin_0 20 rfl rfl)
theorem dX0_akin_21 : decode cX0_akin 21 = .ok (.iload_n 2, 1) := dk_28 (dk_at dksX0_akin_0 21 rfl rfl)
theorem dX0_akin_22 : decode cX0_akin 22 = .ok (.if_icmp .eq 14, 3) := dk_159 0 14 (dk_at dksX0_akin_1 0 rfl rfl)
theorem dX0_akin_25 : decode cX0_akin 25 = .ok (.aload_n 0, 1) := dk_42 (dk_at dksX0_akin_1 3 rfl rfl)
theorem dX0_akin_26 : decode cX0_akin 26 = .ok (.getfield 135, 3) := dk_180 0 135 (dk_at dksX0_akin_1 4 rfl rfl)
theorem dX0_akin_29 : decode cX0_akin 29 = .ok (.iload_n 1, 1) := dk_27 (dk_at dksX0_akin_1 7 rfl rfl)
theorem dX0_akin_30 : decode cX0_akin 30 = .ok (.aaload, 1) := dk_50 (dk_at dksX0_akin_1 8 rfl rfl)
theorem dX0_akin_31 : decode cX0_akin 31 = .ok (.iload_n 2, 1) := dk_28 (dk_at dksX0_akin_1 9 rfl rfl)
theorem dX0_akin_32 : decode cX0_akin 32 = .ok (.iaload, 1) := dk_46 (dk_at dksX0_akin_1 10 rfl rfl)
theorem dX0_akin_33 : decode cX0_akin 33 = .ok (.goto 4, 3) := dk_167 0 4 (dk_at dksX0_akin_1 11 rfl rfl)
theorem dX0_akin_36 : decode cX0_akin 36 = .ok (.iconst (-1), 1) := dk_2 (dk_at dksX0_akin_1 14 rfl rfl)
theorem dX0_akin_37 : decode cX0_akin 37 = .ok (.ireturn, 1) := dk_172 (dk_at dksX0_akin_1 15 rfl rfl)
abbrev cX0_layAkin : ByteArray := prog_1_method_25_code
def yX0_layAkin : MethodName := ⟨RX0, "layAkin", "()V"⟩
def dkwX0_layAkin_9 : List UInt8 := [132, 2, 1, 167, 255, 191, 132, 1, 1, 167, 255, 175, 177]
abbrev dktX0_layAkin_9 : List UInt8 := dkwX0_layAkin_9 ++ []
def dkwX0_layAkin_8 : List UInt8 := [167, 0, 23, 42, 180, 0, 139, 29, 50, 21, 4, 46, 42, 180, 0, 145, 27, 50, 28, 46, 184, 0, 82, 79]
abbrev dktX0_layAkin_8 : List UInt8 := dkwX0_layAkin_8 ++ dktX0_layAkin_9
def dkwX0_layAkin_7 : List UInt8 := [62, 42, 180, 0, 22, 28, 46, 54, 4, 42, 180, 0, 139, 29, 50, 21, 4, 29, 21, 4, 160, 0, 7, 3]
abbrev dktX0_layAkin_7 : List UInt8 := dkwX0_layAkin_7 ++ dktX0_layAkin_8
def dkwX0_layAkin_6 : List UInt8 := [27, 42, 180, 0, 9, 162, 0, 79, 3, 61, 28, 42, 180, 0, 9, 162, 0, 63, 42, 180, 0, 22, 27, 46]
abbrev dktX0_layAkin_6 : List UInt8 := dkwX0_layAkin_6 ++ dktX0_layAkin_7
def dkwX0_layAkin_5 : List UInt8 := [42, 27, 182, 0, 142, 92, 46, 4, 96, 79, 132, 2, 1, 167, 255, 181, 132, 1, 1, 167, 255, 165, 3, 60]
abbrev dktX0_layAkin_5 : List UInt8 := dkwX0_layAkin_5 ++ dktX0_layAkin_6
def dkwX0_layAkin_4 : List UInt8 := [182, 0, 142, 50, 42, 28, 182, 0, 142, 92, 46, 4, 96, 79, 42, 180, 0, 135, 42, 28, 182, 0, 142, 50]
abbrev dktX0_layAkin_4 : List UInt8 := dkwX0_layAkin_4 ++ dktX0_layAkin_5
def dkwX0_layAkin_3 : List UInt8 := [46, 100, 4, 164, 0, 53, 42, 27, 28, 4, 182, 0, 128, 153, 0, 43, 42, 180, 0, 135, 42, 27]
abbrev dktX0_layAkin_3 : List UInt8 := dkwX0_layAkin_3 ++ dktX0_layAkin_4
def dkwX0_layAkin_2 : List UInt8 := [180, 0, 125, 162, 0, 89, 3, 61, 28, 27, 162, 0, 76, 42, 180, 0, 119, 27, 46, 42, 180, 0, 122, 27]
abbrev dktX0_layAkin_2 : List UInt8 := dkwX0_layAkin_2 ++ dktX0_layAkin_3
def dkwX0_layAkin_1 : List UInt8 := [184, 0, 104, 42, 180, 0, 139, 27, 50, 3, 184, 0, 104, 132, 1, 1, 167, 255, 227, 3, 60, 27, 42]
abbrev dktX0_layAkin_1 : List UInt8 := dkwX0_layAkin_1 ++ dktX0_layAkin_2
def dkwX0_layAkin_0 : List UInt8 := [42, 182, 0, 38, 42, 182, 0, 132, 3, 60, 27, 16, 24, 162, 0, 29, 42, 180, 0, 135, 27, 50, 3]
abbrev dktX0_layAkin_0 : List UInt8 := dkwX0_layAkin_0 ++ dktX0_layAkin_1
theorem dksX0_layAkin_0 : cX0_layAkin.data.toList.drop 0 = dktX0_layAkin_0 := by decide +kernel
theorem dksX0_layAkin_1 : cX0_layAkin.data.toList.drop 23 = dktX0_layAkin_1 := dk_seg dksX0_layAkin_0 23 rfl rfl
theorem dksX0_layAkin_2 : cX0_layAkin.data.toList.drop 46 = dktX0_layAkin_2 := dk_seg dksX0_layAkin_1 23 rfl rfl
theorem dksX0_layAkin_3 : cX0_layAkin.data.toList.drop 70 = dktX0_layAkin_3 := dk_seg dksX0_layAkin_2 24 rfl rfl
theorem dksX0_layAkin_4 : cX0_layAkin.data.toList.drop 92 = dktX0_layAkin_4 := dk_seg dksX0_layAkin_3 22 rfl rfl
theorem dksX0_layAkin_5 : cX0_layAkin.data.toList.drop 116 = dktX0_layAkin_5 := dk_seg dksX0_layAkin_4 24 rfl rfl
theorem dksX0_layAkin_6 : cX0_layAkin.data.toList.drop 140 = dktX0_layAkin_6 := dk_seg dksX0_layAkin_5 24 rfl rfl
theorem dksX0_layAkin_7 : cX0_layAkin.data.toList.drop 164 = dktX0_layAkin_7 := dk_seg dksX0_layAkin_6 24 rfl rfl
theorem dksX0_layAkin_8 : cX0_layAkin.data.toList.drop 188 = dktX0_layAkin_8 := dk_seg dksX0_layAkin_7 24 rfl rfl
theorem dksX0_layAkin_9 : cX0_layAkin.data.toList.drop 212 = dktX0_layAkin_9 := dk_seg dksX0_layAkin_8 24 rfl rfl
theorem dX0_layAkin_0 : decode cX0_layAkin 0 = .ok (.aload_n 0, 1) := dk_42 (dk_at dksX0_layAkin_0 0 rfl rfl)
theorem dX0_layAkin_1 : decode cX0_layAkin 1 = .ok (.invokevirtual 38, 3) := dk_182 0 38 (dk_at dksX0_layAkin_0 1 rfl rfl)
theorem dX0_layAkin_4 : decode cX0_layAkin 4 = .ok (.aload_n 0, 1) := dk_42 (dk_at dksX0_layAkin_0 4 rfl rfl)
theorem dX0_layAkin_5 : decode cX0_layAkin 5 = .ok (.invokevirtual 132, 3) := dk_182 0 132 (dk_at dksX0_layAkin_0 5 rfl rfl)
theorem dX0_layAkin_8 : decode cX0_layAkin 8 = .ok (.iconst 0, 1) := dk_3 (dk_at dksX0_layAkin_0 8 rfl rfl)
theorem dX0_layAkin_9 : decode cX0_layAkin 9 = .ok (.istore_n 1, 1) := dk_60 (dk_at dksX0_layAkin_0 9 rfl rfl)
theorem dX0_layAkin_10 : decode cX0_layAkin 10 = .ok (.iload_n 1, 1) := dk_27 (dk_at dksX0_layAkin_0 10 rfl rfl)
theorem dX0_layAkin_11 : decode cX0_layAkin 11 = .ok (.bipush 24, 2) := dk_16 24 (dk_at dksX0_layAkin_0 11 rfl rfl)
theorem dX0_layAkin_13 : decode cX0_layAkin 13 = .ok (.if_icmp .ge 29, 3) := dk_162 0 29 (dk_at dksX0_layAkin_0 13 rfl rfl)
theorem dX0_layAkin_16 : decode cX0_layAkin 16 = .ok (.aload_n 0, 1) := dk_42 (dk_at dksX0_layAkin_0 16 rfl rfl)
theorem dX0_layAkin_17 : decode cX0_layAkin 17 = .ok (.getfield 135, 3) := dk_180 0 135 (dk_at dksX0_layAkin_0 17 rfl rfl)
theorem dX0_layAkin_20 : decode cX0_layAkin 20 = .ok (.iload_n 1, 1) := dk_27 (dk_at dksX0_layAkin_0 20 rfl rfl)
theorem dX0_layAkin_21 : decode cX0_layAkin 21 = .ok (.aaload, 1) := dk_50 (dk_at dksX0_layAkin_0 21 rfl rfl)
theorem dX0_layAkin_22 : decode cX0_layAkin 22 = .ok (.iconst 0, 1) := dk_3 (dk_at dksX0_layAkin_0 22 rfl rfl)
theorem dX0_layAkin_23 : decode cX0_layAkin 23 = .ok (.invokestatic 104, 3) := dk_184 0 104 (dk_at dksX0_layAkin_1 0 rfl rfl)
theorem dX0_layAkin_26 : decode cX0_layAkin 26 = .ok (.aload_n 0, 1) := dk_42 (dk_at dksX0_layAkin_1 3 rfl rfl)
theorem dX0_layAkin_27 : decode cX0_layAkin 27 = .ok (.getfield 139, 3) := dk_180 0 139 (dk_at dksX0_layAkin_1 4 rfl rfl)
theorem dX0_layAkin_30 : decode cX0_layAkin 30 = .ok (.iload_n 1, 1) := dk_27 (dk_at dksX0_layAkin_1 7 rfl rfl)
theorem dX0_layAkin_31 : decode cX0_layAkin 31 = .ok (.aaload, 1) := dk_50 (dk_at dksX0_layAkin_1 8 rfl rfl)
theorem dX0_layAkin_32 : decode cX0_layAkin 32 = .ok (.iconst 0, 1) := dk_3 (dk_at dksX0_layAkin_1 9 rfl rfl)
theorem dX0_layAkin_33 : decode cX0_layAkin 33 = .ok (.invokestatic 104, 3) := dk_184 0 104 (dk_at dksX0_layAkin_1 10 rfl rfl)
theorem dX0_layAkin_36 : decode cX0_layAkin 36 = .ok (.iinc 1 1, 3) := dk_132 1 1 (dk_at dksX0_layAkin_1 13 rfl rfl)
theorem dX0_layAkin_39 : decode cX0_layAkin 39 = .ok (.goto (-29), 3) := dk_167 255 227 (dk_at dksX0_layAkin_1 16 rfl rfl)
theorem dX0_layAkin_42 : decode cX0_layAkin 42 = .ok (.iconst 0, 1) := dk_3 (dk_at dksX0_layAkin_1 19 rfl rfl)
theorem dX0_layAkin_43 : decode cX0_layAkin 43 = .ok (.istore_n 1, 1) := dk_60 (dk_at dksX0_layAkin_1 20 rfl rfl)
theorem dX0_layAkin_44 : decode cX0_layAkin 44 = .ok (.iload_n 1, 1) := dk_27 (dk_at dksX0_layAkin_1 21 rfl rfl)
theorem dX0_layAkin_45 : decode cX0_layAkin 45 = .ok (.aload_n 0, 1) := dk_42 (dk_at dksX0_layAkin_1 22 rfl rfl)
theorem dX0_layAkin_46 : decode cX0_layAkin 46 = .ok (.getfield 125, 3) := dk_180 0 125 (dk_at dksX0_layAkin_2 0 rfl rfl)
theorem dX0_layAkin_49 : decode cX0_layAkin 49 = .ok (.if_icmp .ge 89, 3) := dk_162 0 89 (dk_at dksX0_layAkin_2 3 rfl rfl)
theorem dX0_layAkin_52 : decode cX0_layAkin 52 = .ok (.iconst 0, 1) := dk_3 (dk_at dksX0_layAkin_2 6 rfl rfl)
theorem dX0_layAkin_53 : decode cX0_layAkin 53 = .ok (.istore_n 2, 1) := dk_61 (dk_at dksX0_layAkin_2 7 rfl rfl)
theorem dX0_layAkin_54 : decode cX0_layAkin 54 = .ok (.iload_n 2, 1) := dk_28 (dk_at dksX0_layAkin_2 8 rfl rfl)
theorem dX0_layAkin_55 : decode cX0_layAkin 55 = .ok (.iload_n 1, 1) := dk_27 (dk_at dksX0_layAkin_2 9 rfl rfl)
theorem dX0_layAkin_56 : decode cX0_layAkin 56 = .ok (.if_icmp .ge 76, 3) := dk_162 0 76 (dk_at dksX0_layAkin_2 10 rfl rfl)
theorem dX0_layAkin_59 : decode cX0_layAkin 59 = .ok (.aload_n 0, 1) := dk_42 (dk_at dksX0_layAkin_2 13 rfl rfl)
theorem dX0_layAkin_60 : decode cX0_layAkin 60 = .ok (.getfield 119, 3) := dk_180 0 119 (dk_at dksX0_layAkin_2 14 rfl rfl)
theorem dX0_layAkin_63 : decode cX0_layAkin 63 = .ok (.iload_n 1, 1) := dk_27 (dk_at dksX0_layAkin_2 17 rfl rfl)
theorem dX0_layAkin_64 : decode cX0_layAkin 64 = .ok (.iaload, 1) := dk_46 (dk_at dksX0_layAkin_2 18 rfl rfl)
theorem dX0_layAkin_65 : decode cX0_layAkin 65 = .ok (.aload_n 0, 1) := dk_42 (dk_at dksX0_layAkin_2 19 rfl rfl)
theorem dX0_layAkin_66 : decode cX0_layAkin 66 = .ok (.getfield 122, 3) := dk_180 0 122 (dk_at dksX0_layAkin_2 20 rfl rfl)
theorem dX0_layAkin_69 : decode cX0_layAkin 69 = .ok (.iload_n 1, 1) := dk_27 (dk_at dksX0_layAkin_2 23 rfl rfl)
theorem dX0_layAkin_70 : decode cX0_layAkin 70 = .ok (.iaload, 1) := dk_46 (dk_at dksX0_layAkin_3 0 rfl rfl)
theorem dX0_layAkin_71 : decode cX0_layAkin 71 = .ok (.isub, 1) := dk_100 (dk_at dksX0_layAkin_3 1 rfl rfl)
theorem dX0_layAkin_72 : decode cX0_layAkin 72 = .ok (.iconst 1, 1) := dk_4 (dk_at dksX0_layAkin_3 2 rfl rfl)
theorem dX0_layAkin_73 : decode cX0_layAkin 73 = .ok (.if_icmp .le 53, 3) := dk_164 0 53 (dk_at dksX0_layAkin_3 3 rfl rfl)
theorem dX0_layAkin_76 : decode cX0_layAkin 76 = .ok (.aload_n 0, 1) := dk_42 (dk_at dksX0_layAkin_3 6 rfl rfl)
theorem dX0_layAkin_77 : decode cX0_layAkin 77 = .ok (.iload_n 1, 1) := dk_27 (dk_at dksX0_layAkin_3 7 rfl rfl)
theorem dX0_layAkin_78 : decode cX0_layAkin 78 = .ok (.iload_n 2, 1) := dk_28 (dk_at dksX0_layAkin_3 8 rfl rfl)
theorem dX0_layAkin_79 : decode cX0_layAkin 79 = .ok (.iconst 1, 1) := dk_4 (dk_at dksX0_layAkin_3 9 rfl rfl)
theorem dX0_layAkin_80 : decode cX0_layAkin 80 = .ok (.invokevirtual 128, 3) := dk_182 0 128 (dk_at dksX0_layAkin_3 10 rfl rfl)
theorem dX0_layAkin_83 : decode cX0_layAkin 83 = .ok (.ifCond .eq 43, 3) := dk_153 0 43 (dk_at dksX0_layAkin_3 13 rfl rfl)
theorem dX0_layAkin_86 : decode cX0_layAkin 86 = .ok (.aload_n 0, 1) := dk_42 (dk_at dksX0_layAkin_3 16 rfl rfl)
theorem dX0_layAkin_87 : decode cX0_layAkin 87 = .ok (.getfield 135, 3) := dk_180 0 135 (dk_at dksX0_layAkin_3 17 rfl rfl)
theorem dX0_layAkin_90 : decode cX0_layAkin 90 = .ok (.aload_n 0, 1) := dk_42 (dk_at dksX0_layAkin_3 20 rfl rfl)
theorem dX0_layAkin_91 : decode cX0_layAkin 91 = .ok (.iload_n 1, 1) := dk_27 (dk_at dksX0_layAkin_3 21 rfl rfl)
theorem dX0_layAkin_92 : decode cX0_layAkin 92 = .ok (.invokevirtual 142, 3) := dk_182 0 142 (dk_at dksX0_layAkin_4 0 rfl rfl)
theorem dX0_layAkin_95 : decode cX0_layAkin 95 = .ok (.aaload, 1) := dk_50 (dk_at dksX0_layAkin_4 3 rfl rfl)
theorem dX0_layAkin_96 : decode cX0_layAkin 96 = .ok (.aload_n 0, 1) := dk_42 (dk_at dksX0_layAkin_4 4 rfl rfl)
theorem dX0_layAkin_97 : decode cX0_layAkin 97 = .ok (.iload_n 2, 1) := dk_28 (dk_at dksX0_layAkin_4 5 rfl rfl)
theorem dX0_layAkin_98 : decode cX0_layAkin 98 = .ok (.invokevirtual 142, 3) := dk_182 0 142 (dk_at dksX0_layAkin_4 6 rfl rfl)
theorem dX0_layAkin_101 : decode cX0_layAkin 101 = .ok (.dup2, 1) := dk_92 (dk_at dksX0_layAkin_4 9 rfl rfl)
theorem dX0_layAkin_102 : decode cX0_layAkin 102 = .ok (.iaload, 1) := dk_46 (dk_at dksX0_layAkin_4 10 rfl rfl)
theorem dX0_layAkin_103 : decode cX0_layAkin 103 = .ok (.iconst 1, 1) := dk_4 (dk_at dksX0_layAkin_4 11 rfl rfl)
theorem dX0_layAkin_104 : decode cX0_layAkin 104 = .ok (.iadd, 1) := dk_96 (dk_at dksX0_layAkin_4 12 rfl rfl)
theorem dX0_layAkin_105 : decode cX0_layAkin 105 = .ok (.iastore, 1) := dk_79 (dk_at dksX0_layAkin_4 13 rfl rfl)
theorem dX0_layAkin_106 : decode cX0_layAkin 106 = .ok (.aload_n 0, 1) := dk_42 (dk_at dksX0_layAkin_4 14 rfl rfl)
theorem dX0_layAkin_107 : decode cX0_layAkin 107 = .ok (.getfield 135, 3) := dk_180 0 135 (dk_at dksX0_layAkin_4 15 rfl rfl)
theorem dX0_layAkin_110 : decode cX0_layAkin 110 = .ok (.aload_n 0, 1) := dk_42 (dk_at dksX0_layAkin_4 18 rfl rfl)
theorem dX0_layAkin_111 : decode cX0_layAkin 111 = .ok (.iload_n 2, 1) := dk_28 (dk_at dksX0_layAkin_4 19 rfl rfl)
theorem dX0_layAkin_112 : decode cX0_layAkin 112 = .ok (.invokevirtual 142, 3) := dk_182 0 142 (dk_at dksX0_layAkin_4 20 rfl rfl)
theorem dX0_layAkin_115 : decode cX0_layAkin 115 = .ok (.aaload, 1) := dk_50 (dk_at dksX0_layAkin_4 23 rfl rfl)
theorem dX0_layAkin_116 : decode cX0_layAkin 116 = .ok (.aload_n 0, 1) := dk_42 (dk_at dksX0_layAkin_5 0 rfl rfl)
theorem dX0_layAkin_117 : decode cX0_layAkin 117 = .ok (.iload_n 1, 1) := dk_27 (dk_at dksX0_layAkin_5 1 rfl rfl)
theorem dX0_layAkin_118 : decode cX0_layAkin 118 = .ok (.invokevirtual 142, 3) := dk_182 0 142 (dk_at dksX0_layAkin_5 2 rfl rfl)
theorem dX0_layAkin_121 : decode cX0_layAkin 121 = .ok (.dup2, 1) := dk_92 (dk_at dksX0_layAkin_5 5 rfl rfl)
theorem dX0_layAkin_122 : decode cX0_layAkin 122 = .ok (.iaload, 1) := dk_46 (dk_at dksX0_layAkin_5 6 rfl rfl)
theorem dX0_layAkin_123 : decode cX0_layAkin 123 = .ok (.iconst 1, 1) := dk_4 (dk_at dksX0_layAkin_5 7 rfl rfl)
theorem dX0_layAkin_124 : decode cX0_layAkin 124 = .ok (.iadd, 1) := dk_96 (dk_at dksX0_layAkin_5 8 rfl rfl)
theorem dX0_layAkin_125 : decode cX0_layAkin 125 = .ok (.iastore, 1) := dk_79 (dk_at dksX0_layAkin_5 9 rfl rfl)
theorem dX0_layAkin_126 : decode cX0_layAkin 126 = .ok (.iinc 2 1, 3) := dk_132 2 1 (dk_at dksX0_layAkin_5 10 rfl rfl)
theorem dX0_layAkin_129 : decode cX0_layAkin 129 = .ok (.goto (-75), 3) := dk_167 255 181 (dk_at dksX0_layAkin_5 13 rfl rfl)
theorem dX0_layAkin_132 : decode cX0_layAkin 132 = .ok (.iinc 1 1, 3) := dk_132 1 1 (dk_at dksX0_layAkin_5 16 rfl rfl)
theorem dX0_layAkin_135 : decode cX0_layAkin 135 = .ok (.goto (-91), 3) := dk_167 255 165 (dk_at dksX0_layAkin_5 19 rfl rfl)
theorem dX0_layAkin_138 : decode cX0_layAkin 138 = .ok (.iconst 0, 1) := dk_3 (dk_at dksX0_layAkin_5 22 rfl rfl)
theorem dX0_layAkin_139 : decode cX0_layAkin 139 = .ok (.istore_n 1, 1) := dk_60 (dk_at dksX0_layAkin_5 23 rfl rfl)
theorem dX0_layAkin_140 : decode cX0_layAkin 140 = .ok (.iload_n 1, 1) := dk_27 (dk_at dksX0_layAkin_6 0 rfl rfl)
theorem dX0_layAkin_141 : decode cX0_layAkin 141 = .ok (.aload_n 0, 1) := dk_42 (dk_at dksX0_layAkin_6 1 rfl rfl)
theorem dX0_layAkin_142 : decode cX0_layAkin 142 = .ok (.getfield 9, 3) := dk_180 0 9 (dk_at dksX0_layAkin_6 2 rfl rfl)
theorem dX0_layAkin_145 : decode cX0_layAkin 145 = .ok (.if_icmp .ge 79, 3) := dk_162 0 79 (dk_at dksX0_layAkin_6 5 rfl rfl)
theorem dX0_layAkin_148 : decode cX0_layAkin 148 = .ok (.iconst 0, 1) := dk_3 (dk_at dksX0_layAkin_6 8 rfl rfl)
theorem dX0_layAkin_149 : decode cX0_layAkin 149 = .ok (.istore_n 2, 1) := dk_61 (dk_at dksX0_layAkin_6 9 rfl rfl)
theorem dX0_layAkin_150 : decode cX0_layAkin 150 = .ok (.iload_n 2, 1) := dk_28 (dk_at dksX0_layAkin_6 10 rfl rfl)
theorem dX0_layAkin_151 : decode cX0_layAkin 151 = .ok (.aload_n 0, 1) := dk_42 (dk_at dksX0_layAkin_6 11 rfl rfl)
theorem dX0_layAkin_152 : decode cX0_layAkin 152 = .ok (.getfield 9, 3) := dk_180 0 9 (dk_at dksX0_layAkin_6 12 rfl rfl)
theorem dX0_layAkin_155 : decode cX0_layAkin 155 = .ok (.if_icmp .ge 63, 3) := dk_162 0 63 (dk_at dksX0_layAkin_6 15 rfl rfl)
theorem dX0_layAkin_158 : decode cX0_layAkin 158 = .ok (.aload_n 0, 1) := dk_42 (dk_at dksX0_layAkin_6 18 rfl rfl)
theorem dX0_layAkin_159 : decode cX0_layAkin 159 = .ok (.getfield 22, 3) := dk_180 0 22 (dk_at dksX0_layAkin_6 19 rfl rfl)
theorem dX0_layAkin_162 : decode cX0_layAkin 162 = .ok (.iload_n 1, 1) := dk_27 (dk_at dksX0_layAkin_6 22 rfl rfl)
theorem dX0_layAkin_163 : decode cX0_layAkin 163 = .ok (.iaload, 1) := dk_46 (dk_at dksX0_layAkin_6 23 rfl rfl)
theorem dX0_layAkin_164 : decode cX0_layAkin 164 = .ok (.istore_n 3, 1) := dk_62 (dk_at dksX0_layAkin_7 0 rfl rfl)
theorem dX0_layAkin_165 : decode cX0_layAkin 165 = .ok (.aload_n 0, 1) := dk_42 (dk_at dksX0_layAkin_7 1 rfl rfl)
theorem dX0_layAkin_166 : decode cX0_layAkin 166 = .ok (.getfield 22, 3) := dk_180 0 22 (dk_at dksX0_layAkin_7 2 rfl rfl)
theorem dX0_layAkin_169 : decode cX0_layAkin 169 = .ok (.iload_n 2, 1) := dk_28 (dk_at dksX0_layAkin_7 5 rfl rfl)
theorem dX0_layAkin_170 : decode cX0_layAkin 170 = .ok (.iaload, 1) := dk_46 (dk_at dksX0_layAkin_7 6 rfl rfl)
theorem dX0_layAkin_171 : decode cX0_layAkin 171 = .ok (.istore 4, 2) := dk_54 4 (dk_at dksX0_layAkin_7 7 rfl rfl)
theorem dX0_layAkin_173 : decode cX0_layAkin 173 = .ok (.aload_n 0, 1) := dk_42 (dk_at dksX0_layAkin_7 9 rfl rfl)
theorem dX0_layAkin_174 : decode cX0_layAkin 174 = .ok (.getfield 139, 3) := dk_180 0 139 (dk_at dksX0_layAkin_7 10 rfl rfl)
theorem dX0_layAkin_177 : decode cX0_layAkin 177 = .ok (.iload_n 3, 1) := dk_29 (dk_at dksX0_layAkin_7 13 rfl rfl)
theorem dX0_layAkin_178 : decode cX0_layAkin 178 = .ok (.aaload, 1) := dk_50 (dk_at dksX0_layAkin_7 14 rfl rfl)
theorem dX0_layAkin_179 : decode cX0_layAkin 179 = .ok (.iload 4, 2) := dk_21 4 (dk_at dksX0_layAkin_7 15 rfl rfl)
theorem dX0_layAkin_181 : decode cX0_layAkin 181 = .ok (.iload_n 3, 1) := dk_29 (dk_at dksX0_layAkin_7 17 rfl rfl)
theorem dX0_layAkin_182 : decode cX0_layAkin 182 = .ok (.iload 4, 2) := dk_21 4 (dk_at dksX0_layAkin_7 18 rfl rfl)
theorem dX0_layAkin_184 : decode cX0_layAkin 184 = .ok (.if_icmp .ne 7, 3) := dk_160 0 7 (dk_at dksX0_layAkin_7 20 rfl rfl)
theorem dX0_layAkin_187 : decode cX0_layAkin 187 = .ok (.iconst 0, 1) := dk_3 (dk_at dksX0_layAkin_7 23 rfl rfl)
theorem dX0_layAkin_188 : decode cX0_layAkin 188 = .ok (.goto 23, 3) := dk_167 0 23 (dk_at dksX0_layAkin_8 0 rfl rfl)
theorem dX0_layAkin_191 : decode cX0_layAkin 191 = .ok (.aload_n 0, 1) := dk_42 (dk_at dksX0_layAkin_8 3 rfl rfl)
theorem dX0_layAkin_192 : decode cX0_layAkin 192 = .ok (.getfield 139, 3) := dk_180 0 139 (dk_at dksX0_layAkin_8 4 rfl rfl)
theorem dX0_layAkin_195 : decode cX0_layAkin 195 = .ok (.iload_n 3, 1) := dk_29 (dk_at dksX0_layAkin_8 7 rfl rfl)
theorem dX0_layAkin_196 : decode cX0_layAkin 196 = .ok (.aaload, 1) := dk_50 (dk_at dksX0_layAkin_8 8 rfl rfl)
theorem dX0_layAkin_197 : decode cX0_layAkin 197 = .ok (.iload 4, 2) := dk_21 4 (dk_at dksX0_layAkin_8 9 rfl rfl)
theorem dX0_layAkin_199 : decode cX0_layAkin 199 = .ok (.iaload, 1) := dk_46 (dk_at dksX0_layAkin_8 11 rfl rfl)
theorem dX0_layAkin_200 : decode cX0_layAkin 200 = .ok (.aload_n 0, 1) := dk_42 (dk_at dksX0_layAkin_8 12 rfl rfl)
theorem dX0_layAkin_201 : decode cX0_layAkin 201 = .ok (.getfield 145, 3) := dk_180 0 145 (dk_at dksX0_layAkin_8 13 rfl rfl)
theorem dX0_layAkin_204 : decode cX0_layAkin 204 = .ok (.iload_n 1, 1) := dk_27 (dk_at dksX0_layAkin_8 16 rfl rfl)
theorem dX0_layAkin_205 : decode cX0_layAkin 205 = .ok (.aaload, 1) := dk_50 (dk_at dksX0_layAkin_8 17 rfl rfl)
theorem dX0_layAkin_206 : decode cX0_layAkin 206 = .ok (.iload_n 2, 1) := dk_28 (dk_at dksX0_layAkin_8 18 rfl rfl)
theorem dX0_layAkin_207 : decode cX0_layAkin 207 = .ok (.iaload, 1) := dk_46 (dk_at dksX0_layAkin_8 19 rfl rfl)
theorem dX0_layAkin_208 : decode cX0_layAkin 208 = .ok (.invokestatic 82, 3) := dk_184 0 82 (dk_at dksX0_layAkin_8 20 rfl rfl)
theorem dX0_layAkin_211 : decode cX0_layAkin 211 = .ok (.iastore, 1) := dk_79 (dk_at dksX0_layAkin_8 23 rfl rfl)
theorem dX0_layAkin_212 : decode cX0_layAkin 212 = .ok (.iinc 2 1, 3) := dk_132 2 1 (dk_at dksX0_layAkin_9 0 rfl rfl)
theorem dX0_layAkin_215 : decode cX0_layAkin 215 = .ok (.goto (-65), 3) := dk_167 255 191 (dk_at dksX0_layAkin_9 3 rfl rfl)
theorem dX0_layAkin_218 : decode cX0_layAkin 218 = .ok (.iinc 1 1, 3) := dk_132 1 1 (dk_at dksX0_layAkin_9 6 rfl rfl)
theorem dX0_layAkin_221 : decode cX0_layAkin 221 = .ok (.goto (-81), 3) := dk_167 255 175 (dk_at dksX0_layAkin_9 9 rfl rfl)
theorem dX0_layAkin_224 : decode cX0_layAkin 224 = .ok (.return_, 1) := dk_177 (dk_at dksX0_layAkin_9 12 rfl rfl)
abbrev cX0_layWords : ByteArray := prog_1_method_23_code
def yX0_layWords : MethodName := ⟨RX0, "layWords", "()V"⟩
def dkwX0_layWords_7 : List UInt8 := [177]
abbrev dktX0_layWords_7 : List UInt8 := dkwX0_layWords_7 ++ []
def dkwX0_layWords_6 : List UInt8 := [153, 0, 7, 4, 167, 0, 4, 3, 96, 181, 0, 125, 132, 2, 1, 167, 255, 119, 132, 1, 1, 167, 255, 103]
abbrev dktX0_layWords_6 : List UInt8 := dkwX0_layWords_6 ++ dktX0_layWords_7
def dkwX0_layWords_5 : List UInt8 := [154, 0, 7, 4, 167, 0, 4, 3, 54, 4, 132, 5, 1, 167, 255, 218, 42, 89, 180, 0, 125, 21, 4]
abbrev dktX0_layWords_5 : List UInt8 := dkwX0_layWords_5 ++ dktX0_layWords_6
def dkwX0_layWords_4 : List UInt8 := [180, 0, 125, 162, 0, 35, 21, 4, 153, 0, 30, 42, 21, 5, 42, 180, 0, 125, 3, 182, 0, 128]
abbrev dktX0_layWords_4 : List UInt8 := dkwX0_layWords_4 ++ dktX0_layWords_5
def dkwX0_layWords_3 : List UInt8 := [180, 0, 125, 28, 79, 42, 180, 0, 119, 42, 180, 0, 125, 29, 79, 4, 54, 4, 3, 54, 5, 21, 5, 42]
abbrev dktX0_layWords_3 : List UInt8 := dkwX0_layWords_3 ++ dktX0_layWords_4
def dkwX0_layWords_2 : List UInt8 := [29, 182, 0, 78, 153, 0, 99, 42, 180, 0, 116, 42, 180, 0, 125, 27, 79, 42, 180, 0, 122, 42]
abbrev dktX0_layWords_2 : List UInt8 := dkwX0_layWords_2 ++ dktX0_layWords_3
def dkwX0_layWords_1 : List UInt8 := [182, 0, 67, 162, 0, 130, 42, 180, 0, 61, 27, 50, 28, 182, 0, 75, 62, 42, 180, 0, 61, 27, 50, 28]
abbrev dktX0_layWords_1 : List UInt8 := dkwX0_layWords_1 ++ dktX0_layWords_2
def dkwX0_layWords_0 : List UInt8 := [42, 3, 181, 0, 125, 3, 60, 27, 42, 180, 0, 50, 162, 0, 151, 3, 61, 28, 42, 180, 0, 61, 27, 50]
abbrev dktX0_layWords_0 : List UInt8 := dkwX0_layWords_0 ++ dktX0_layWords_1
theorem dksX0_layWords_0 : cX0_layWords.data.toList.drop 0 = dktX0_layWords_0 := by decide +kernel
theorem dksX0_layWords_1 : cX0_layWords.data.toList.drop 24 = dktX0_layWords_1 := dk_seg dksX0_layWords_0 24 rfl rfl
theorem dksX0_layWords_2 : cX0_layWords.data.toList.drop 48 = dktX0_layWords_2 := dk_seg dksX0_layWords_1 24 rfl rfl
theorem dksX0_layWords_3 : cX0_layWords.data.toList.drop 70 = dktX0_layWords_3 := dk_seg dksX0_layWords_2 22 rfl rfl
theorem dksX0_layWords_4 : cX0_layWords.data.toList.drop 94 = dktX0_layWords_4 := dk_seg dksX0_layWords_3 24 rfl rfl
theorem dksX0_layWords_5 : cX0_layWords.data.toList.drop 116 = dktX0_layWords_5 := dk_seg dksX0_layWords_4 22 rfl rfl
theorem dksX0_layWords_6 : cX0_layWords.data.toList.drop 139 = dktX0_layWords_6 := dk_seg dksX0_layWords_5 23 rfl rfl
theorem dksX0_layWords_7 : cX0_layWords.data.toList.drop 163 = dktX0_layWords_7 := dk_seg dksX0_layWords_6 24 rfl rfl
theorem dX0_layWords_0 : decode cX0_layWords 0 = .ok (.aload_n 0, 1) := dk_42 (dk_at dksX0_layWords_0 0 rfl rfl)
theorem dX0_layWords_1 : decode cX0_layWords 1 = .ok (.iconst 0, 1) := dk_3 (dk_at dksX0_layWords_0 1 rfl rfl)
theorem dX0_layWords_2 : decode cX0_layWords 2 = .ok (.putfield 125, 3) := dk_181 0 125 (dk_at dksX0_layWords_0 2 rfl rfl)
theorem dX0_layWords_5 : decode cX0_layWords 5 = .ok (.iconst 0, 1) := dk_3 (dk_at dksX0_layWords_0 5 rfl rfl)
theorem dX0_layWords_6 : decode cX0_layWords 6 = .ok (.istore_n 1, 1) := dk_60 (dk_at dksX0_layWords_0 6 rfl rfl)
theorem dX0_layWords_7 : decode cX0_layWords 7 = .ok (.iload_n 1, 1) := dk_27 (dk_at dksX0_layWords_0 7 rfl rfl)
theorem dX0_layWords_8 : decode cX0_layWords 8 = .ok (.aload_n 0, 1) := dk_42 (dk_at dksX0_layWords_0 8 rfl rfl)
theorem dX0_layWords_9 : decode cX0_layWords 9 = .ok (.getfield 50, 3) := dk_180 0 50 (dk_at dksX0_layWords_0 9 rfl rfl)
theorem dX0_layWords_12 : decode cX0_layWords 12 = .ok (.if_icmp .ge 151, 3) := dk_162 0 151 (dk_at dksX0_layWords_0 12 rfl rfl)
theorem dX0_layWords_15 : decode cX0_layWords 15 = .ok (.iconst 0, 1) := dk_3 (dk_at dksX0_layWords_0 15 rfl rfl)
theorem dX0_layWords_16 : decode cX0_layWords 16 = .ok (.istore_n 2, 1) := dk_61 (dk_at dksX0_layWords_0 16 rfl rfl)
theorem dX0_layWords_17 : decode cX0_layWords 17 = .ok (.iload_n 2, 1) := dk_28 (dk_at dksX0_layWords_0 17 rfl rfl)
theorem dX0_layWords_18 : decode cX0_layWords 18 = .ok (.aload_n 0, 1) := dk_42 (dk_at dksX0_layWords_0 18 rfl rfl)
theorem dX0_layWords_19 : decode cX0_layWords 19 = .ok (.getfield 61, 3) := dk_180 0 61 (dk_at dksX0_layWords_0 19 rfl rfl)
theorem dX0_layWords_22 : decode cX0_layWords 22 = .ok (.iload_n 1, 1) := dk_27 (dk_at dksX0_layWords_0 22 rfl rfl)
theorem dX0_layWords_23 : decode cX0_layWords 23 = .ok (.aaload, 1) := dk_50 (dk_at dksX0_layWords_0 23 rfl rfl)
theorem dX0_layWords_24 : decode cX0_layWords 24 = .ok (.invokevirtual 67, 3) := dk_182 0 67 (dk_at dksX0_layWords_1 0 rfl rfl)
theorem dX0_layWords_27 : decode cX0_layWords 27 = .ok (.if_icmp .ge 130, 3) := dk_162 0 130 (dk_at dksX0_layWords_1 3 rfl rfl)
theorem dX0_layWords_30 : decode cX0_layWords 30 = .ok (.aload_n 0, 1) := dk_42 (dk_at dksX0_layWords_1 6 rfl rfl)
theorem dX0_layWords_31 : decode cX0_layWords 31 = .ok (.getfield 61, 3) := dk_180 0 61 (dk_at dksX0_layWords_1 7 rfl rfl)
theorem dX0_layWords_34 : decode cX0_layWords 34 = .ok (.iload_n 1, 1) := dk_27 (dk_at dksX0_layWords_1 10 rfl rfl)
theorem dX0_layWords_35 : decode cX0_layWords 35 = .ok (.aaload, 1) := dk_50 (dk_at dksX0_layWords_1 11 rfl rfl)
theorem dX0_layWords_36 : decode cX0_layWords 36 = .ok (.iload_n 2, 1) := dk_28 (dk_at dksX0_layWords_1 12 rfl rfl)
theorem dX0_layWords_37 : decode cX0_layWords 37 = .ok (.invokevirtual 75, 3) := dk_182 0 75 (dk_at dksX0_layWords_1 13 rfl rfl)
theorem dX0_layWords_40 : decode cX0_layWords 40 = .ok (.istore_n 3, 1) := dk_62 (dk_at dksX0_layWords_1 16 rfl rfl)
theorem dX0_layWords_41 : decode cX0_layWords 41 = .ok (.aload_n 0, 1) := dk_42 (dk_at dksX0_layWords_1 17 rfl rfl)
theorem dX0_layWords_42 : decode cX0_layWords 42 = .ok (.getfield 61, 3) := dk_180 0 61 (dk_at dksX0_layWords_1 18 rfl rfl)
theorem dX0_layWords_45 : decode cX0_layWords 45 = .ok (.iload_n 1, 1) := dk_27 (dk_at dksX0_layWords_1 21 rfl rfl)
theorem dX0_layWords_46 : decode cX0_layWords 46 = .ok (.aaload, 1) := dk_50 (dk_at dksX0_layWords_1 22 rfl rfl)
theorem dX0_layWords_47 : decode cX0_layWords 47 = .ok (.iload_n 2, 1) := dk_28 (dk_at dksX0_layWords_1 23 rfl rfl)
theorem dX0_layWords_48 : decode cX0_layWords 48 = .ok (.iload_n 3, 1) := dk_29 (dk_at dksX0_layWords_2 0 rfl rfl)
theorem dX0_layWords_49 : decode cX0_layWords 49 = .ok (.invokevirtual 78, 3) := dk_182 0 78 (dk_at dksX0_layWords_2 1 rfl rfl)
theorem dX0_layWords_52 : decode cX0_layWords 52 = .ok (.ifCond .eq 99, 3) := dk_153 0 99 (dk_at dksX0_layWords_2 4 rfl rfl)
theorem dX0_layWords_55 : decode cX0_layWords 55 = .ok (.aload_n 0, 1) := dk_42 (dk_at dksX0_layWords_2 7 rfl rfl)
theorem dX0_layWords_56 : decode cX0_layWords 56 = .ok (.getfield 116, 3) := dk_180 0 116 (dk_at dksX0_layWords_2 8 rfl rfl)
theorem dX0_layWords_59 : decode cX0_layWords 59 = .ok (.aload_n 0, 1) := dk_42 (dk_at dksX0_layWords_2 11 rfl rfl)
theorem dX0_layWords_60 : decode cX0_layWords 60 = .ok (.getfield 125, 3) := dk_180 0 125 (dk_at dksX0_layWords_2 12 rfl rfl)
theorem dX0_layWords_63 : decode cX0_layWords 63 = .ok (.iload_n 1, 1) := dk_27 (dk_at dksX0_layWords_2 15 rfl rfl)
theorem dX0_layWords_64 : decode cX0_layWords 64 = .ok (.iastore, 1) := dk_79 (dk_at dksX0_layWords_2 16 rfl rfl)
theorem dX0_layWords_65 : decode cX0_layWords 65 = .ok (.aload_n 0, 1) := dk_42 (dk_at dksX0_layWords_2 17 rfl rfl)
theorem dX0_layWords_66 : decode cX0_layWords 66 = .ok (.getfield 122, 3) := dk_180 0 122 (dk_at dksX0_layWords_2 18 rfl rfl)
theorem dX0_layWords_69 : decode cX0_layWords 69 = .ok (.aload_n 0, 1) := dk_42 (dk_at dksX0_layWords_2 21 rfl rfl)
theorem dX0_layWords_70 : decode cX0_layWords 70 = .ok (.getfield 125, 3) := dk_180 0 125 (dk_at dksX0_layWords_3 0 rfl rfl)
theorem dX0_layWords_73 : decode cX0_layWords 73 = .ok (.iload_n 2, 1) := dk_28 (dk_at dksX0_layWords_3 3 rfl rfl)
theorem dX0_layWords_74 : decode cX0_layWords 74 = .ok (.iastore, 1) := dk_79 (dk_at dksX0_layWords_3 4 rfl rfl)
theorem dX0_layWords_75 : decode cX0_layWords 75 = .ok (.aload_n 0, 1) := dk_42 (dk_at dksX0_layWords_3 5 rfl rfl)
theorem dX0_layWords_76 : decode cX0_layWords 76 = .ok (.getfield 119, 3) := dk_180 0 119 (dk_at dksX0_layWords_3 6 rfl rfl)
theorem dX0_layWords_79 : decode cX0_layWords 79 = .ok (.aload_n 0, 1) := dk_42 (dk_at dksX0_layWords_3 9 rfl rfl)
theorem dX0_layWords_80 : decode cX0_layWords 80 = .ok (.getfield 125, 3) := dk_180 0 125 (dk_at dksX0_layWords_3 10 rfl rfl)
theorem dX0_layWords_83 : decode cX0_layWords 83 = .ok (.iload_n 3, 1) := dk_29 (dk_at dksX0_layWords_3 13 rfl rfl)
theorem dX0_layWords_84 : decode cX0_layWords 84 = .ok (.iastore, 1) := dk_79 (dk_at dksX0_layWords_3 14 rfl rfl)
theorem dX0_layWords_85 : decode cX0_layWords 85 = .ok (.iconst 1, 1) := dk_4 (dk_at dksX0_layWords_3 15 rfl rfl)
theorem dX0_layWords_86 : decode cX0_layWords 86 = .ok (.istore 4, 2) := dk_54 4 (dk_at dksX0_layWords_3 16 rfl rfl)
theorem dX0_layWords_88 : decode cX0_layWords 88 = .ok (.iconst 0, 1) := dk_3 (dk_at dksX0_layWords_3 18 rfl rfl)
theorem dX0_layWords_89 : decode cX0_layWords 89 = .ok (.istore 5, 2) := dk_54 5 (dk_at dksX0_layWords_3 19 rfl rfl)
theorem dX0_layWords_91 : decode cX0_layWords 91 = .ok (.iload 5, 2) := dk_21 5 (dk_at dksX0_layWords_3 21 rfl rfl)
theorem dX0_layWords_93 : decode cX0_layWords 93 = .ok (.aload_n 0, 1) := dk_42 (dk_at dksX0_layWords_3 23 rfl rfl)
theorem dX0_layWords_94 : decode cX0_layWords 94 = .ok (.getfield 125, 3) := dk_180 0 125 (dk_at dksX0_layWords_4 0 rfl rfl)
theorem dX0_layWords_97 : decode cX0_layWords 97 = .ok (.if_icmp .ge 35, 3) := dk_162 0 35 (dk_at dksX0_layWords_4 3 rfl rfl)
theorem dX0_layWords_100 : decode cX0_layWords 100 = .ok (.iload 4, 2) := dk_21 4 (dk_at dksX0_layWords_4 6 rfl rfl)
theorem dX0_layWords_102 : decode cX0_layWords 102 = .ok (.ifCond .eq 30, 3) := dk_153 0 30 (dk_at dksX0_layWords_4 8 rfl rfl)
theorem dX0_layWords_105 : decode cX0_layWords 105 = .ok (.aload_n 0, 1) := dk_42 (dk_at dksX0_layWords_4 11 rfl rfl)
theorem dX0_layWords_106 : decode cX0_layWords 106 = .ok (.iload 5, 2) := dk_21 5 (dk_at dksX0_layWords_4 12 rfl rfl)
theorem dX0_layWords_108 : decode cX0_layWords 108 = .ok (.aload_n 0, 1) := dk_42 (dk_at dksX0_layWords_4 14 rfl rfl)
theorem dX0_layWords_109 : decode cX0_layWords 109 = .ok (.getfield 125, 3) := dk_180 0 125 (dk_at dksX0_layWords_4 15 rfl rfl)
theorem dX0_layWords_112 : decode cX0_layWords 112 = .ok (.iconst 0, 1) := dk_3 (dk_at dksX0_layWords_4 18 rfl rfl)
theorem dX0_layWords_113 : decode cX0_layWords 113 = .ok (.invokevirtual 128, 3) := dk_182 0 128 (dk_at dksX0_layWords_4 19 rfl rfl)
theorem dX0_layWords_116 : decode cX0_layWords 116 = .ok (.ifCond .ne 7, 3) := dk_154 0 7 (dk_at dksX0_layWords_5 0 rfl rfl)
theorem dX0_layWords_119 : decode cX0_layWords 119 = .ok (.iconst 1, 1) := dk_4 (dk_at dksX0_layWords_5 3 rfl rfl)
theorem dX0_layWords_120 : decode cX0_layWords 120 = .ok (.goto 4, 3) := dk_167 0 4 (dk_at dksX0_layWords_5 4 rfl rfl)
theorem dX0_layWords_123 : decode cX0_layWords 123 = .ok (.iconst 0, 1) := dk_3 (dk_at dksX0_layWords_5 7 rfl rfl)
theorem dX0_layWords_124 : decode cX0_layWords 124 = .ok (.istore 4, 2) := dk_54 4 (dk_at dksX0_layWords_5 8 rfl rfl)
theorem dX0_layWords_126 : decode cX0_layWords 126 = .ok (.iinc 5 1, 3) := dk_132 5 1 (dk_at dksX0_layWords_5 10 rfl rfl)
theorem dX0_layWords_129 : decode cX0_layWords 129 = .ok (.goto (-38), 3) := dk_167 255 218 (dk_at dksX0_layWords_5 13 rfl rfl)
theorem dX0_layWords_132 : decode cX0_layWords 132 = .ok (.aload_n 0, 1) := dk_42 (dk_at dksX0_layWords_5 16 rfl rfl)
theorem dX0_layWords_133 : decode cX0_layWords 133 = .ok (.dup, 1) := dk_89 (dk_at dksX0_layWords_5 17 rfl rfl)
theorem dX0_layWords_134 : decode cX0_layWords 134 = .ok (.getfield 125, 3) := dk_180 0 125 (dk_at dksX0_layWords_5 18 rfl rfl)
theorem dX0_layWords_137 : decode cX0_layWords 137 = .ok (.iload 4, 2) := dk_21 4 (dk_at dksX0_layWords_5 21 rfl rfl)
theorem dX0_layWords_139 : decode cX0_layWords 139 = .ok (.ifCond .eq 7, 3) := dk_153 0 7 (dk_at dksX0_layWords_6 0 rfl rfl)
theorem dX0_layWords_142 : decode cX0_layWords 142 = .ok (.iconst 1, 1) := dk_4 (dk_at dksX0_layWords_6 3 rfl rfl)
theorem dX0_layWords_143 : decode cX0_layWords 143 = .ok (.goto 4, 3) := dk_167 0 4 (dk_at dksX0_layWords_6 4 rfl rfl)
theorem dX0_layWords_146 : decode cX0_layWords 146 = .ok (.iconst 0, 1) := dk_3 (dk_at dksX0_layWords_6 7 rfl rfl)
theorem dX0_layWords_147 : decode cX0_layWords 147 = .ok (.iadd, 1) := dk_96 (dk_at dksX0_layWords_6 8 rfl rfl)
theorem dX0_layWords_148 : decode cX0_layWords 148 = .ok (.putfield 125, 3) := dk_181 0 125 (dk_at dksX0_layWords_6 9 rfl rfl)
theorem dX0_layWords_151 : decode cX0_layWords 151 = .ok (.iinc 2 1, 3) := dk_132 2 1 (dk_at dksX0_layWords_6 12 rfl rfl)
theorem dX0_layWords_154 : decode cX0_layWords 154 = .ok (.goto (-137), 3) := dk_167 255 119 (dk_at dksX0_layWords_6 15 rfl rfl)
theorem dX0_layWords_157 : decode cX0_layWords 157 = .ok (.iinc 1 1, 3) := dk_132 1 1 (dk_at dksX0_layWords_6 18 rfl rfl)
theorem dX0_layWords_160 : decode cX0_layWords 160 = .ok (.goto (-153), 3) := dk_167 255 103 (dk_at dksX0_layWords_6 21 rfl rfl)
theorem dX0_layWords_163 : decode cX0_layWords 163 = .ok (.return_, 1) := dk_177 (dk_at dksX0_layWords_7 0 rfl rfl)
abbrev cX0_areAlike : ByteArray := prog_1_method_22_code
def yX0_areAlike : MethodName := ⟨RX0, "areAlike", "(III)Z"⟩
def dkwX0_areAlike_5 : List UInt8 := [167, 0, 4, 3, 54, 7, 132, 8, 1, 167, 255, 199, 21, 7, 172]
abbrev dktX0_areAlike_5 : List UInt8 := dkwX0_areAlike_5 ++ []
def dkwX0_areAlike_4 : List UInt8 := [182, 0, 71, 42, 25, 5, 42, 180, 0, 122, 28, 46, 21, 8, 96, 182, 0, 71, 160, 0, 7, 4]
abbrev dktX0_areAlike_4 : List UInt8 := dkwX0_areAlike_4 ++ dktX0_areAlike_5
def dkwX0_areAlike_3 : List UInt8 := [21, 6, 29, 100, 162, 0, 54, 21, 7, 153, 0, 49, 42, 25, 4, 42, 180, 0, 122, 27, 46, 21, 8, 96]
abbrev dktX0_areAlike_3 : List UInt8 := dkwX0_areAlike_3 ++ dktX0_areAlike_4
def dkwX0_areAlike_2 : List UInt8 := [46, 42, 180, 0, 122, 28, 46, 100, 160, 0, 7, 4, 167, 0, 4, 3, 54, 7, 3, 54, 8, 21, 8]
abbrev dktX0_areAlike_2 : List UInt8 := dkwX0_areAlike_2 ++ dktX0_areAlike_3
def dkwX0_areAlike_1 : List UInt8 := [58, 5, 42, 180, 0, 119, 27, 46, 42, 180, 0, 122, 27, 46, 100, 54, 6, 21, 6, 42, 180, 0, 119, 28]
abbrev dktX0_areAlike_1 : List UInt8 := dkwX0_areAlike_1 ++ dktX0_areAlike_2
def dkwX0_areAlike_0 : List UInt8 := [42, 180, 0, 61, 42, 180, 0, 116, 27, 46, 50, 58, 4, 42, 180, 0, 61, 42, 180, 0, 116, 28, 46, 50]
abbrev dktX0_areAlike_0 : List UInt8 := dkwX0_areAlike_0 ++ dktX0_areAlike_1
theorem dksX0_areAlike_0 : cX0_areAlike.data.toList.drop 0 = dktX0_areAlike_0 := by decide +kernel
theorem dksX0_areAlike_1 : cX0_areAlike.data.toList.drop 24 = dktX0_areAlike_1 := dk_seg dksX0_areAlike_0 24 rfl rfl
theorem dksX0_areAlike_2 : cX0_areAlike.data.toList.drop 48 = dktX0_areAlike_2 := dk_seg dksX0_areAlike_1 24 rfl rfl
theorem dksX0_areAlike_3 : cX0_areAlike.data.toList.drop 71 = dktX0_areAlike_3 := dk_seg dksX0_areAlike_2 23 rfl rfl
theorem dksX0_areAlike_4 : cX0_areAlike.data.toList.drop 95 = dktX0_areAlike_4 := dk_seg dksX0_areAlike_3 24 rfl rfl
theorem dksX0_areAlike_5 : cX0_areAlike.data.toList.drop 117 = dktX0_areAlike_5 := dk_seg dksX0_areAlike_4 22 rfl rfl
theorem dX0_areAlike_0 : decode cX0_areAlike 0 = .ok (.aload_n 0, 1) := dk_42 (dk_at dksX0_areAlike_0 0 rfl rfl)
theorem dX0_areAlike_1 : decode cX0_areAlike 1 = .ok (.getfield 61, 3) := dk_180 0 61 (dk_at dksX0_areAlike_0 1 rfl rfl)
theorem dX0_areAlike_4 : decode cX0_areAlike 4 = .ok (.aload_n 0, 1) := dk_42 (dk_at dksX0_areAlike_0 4 rfl rfl)
theorem dX0_areAlike_5 : decode cX0_areAlike 5 = .ok (.getfield 116, 3) := dk_180 0 116 (dk_at dksX0_areAlike_0 5 rfl rfl)
theorem dX0_areAlike_8 : decode cX0_areAlike 8 = .ok (.iload_n 1, 1) := dk_27 (dk_at dksX0_areAlike_0 8 rfl rfl)
theorem dX0_areAlike_9 : decode cX0_areAlike 9 = .ok (.iaload, 1) := dk_46 (dk_at dksX0_areAlike_0 9 rfl rfl)
theorem dX0_areAlike_10 : decode cX0_areAlike 10 = .ok (.aaload, 1) := dk_50 (dk_at dksX0_areAlike_0 10 rfl rfl)
theorem dX0_areAlike_11 : decode cX0_areAlike 11 = .ok (.astore 4, 2) := dk_58 4 (dk_at dksX0_areAlike_0 11 rfl rfl)
theorem dX0_areAlike_13 : decode cX0_areAlike 13 = .ok (.aload_n 0, 1) := dk_42 (dk_at dksX0_areAlike_0 13 rfl rfl)
theorem dX0_areAlike_14 : decode cX0_areAlike 14 = .ok (.getfield 61, 3) := dk_180 0 61 (dk_at dksX0_areAlike_0 14 rfl rfl)
theorem dX0_areAlike_17 : decode cX0_areAlike 17 = .ok (.aload_n 0, 1) := dk_42 (dk_at dksX0_areAlike_0 17 rfl rfl)
theorem dX0_areAlike_18 : decode cX0_areAlike 18 = .ok (.getfield 116, 3) := dk_180 0 116 (dk_at dksX0_areAlike_0 18 rfl rfl)
theorem dX0_areAlike_21 : decode cX0_areAlike 21 = .ok (.iload_n 2, 1) := dk_28 (dk_at dksX0_areAlike_0 21 rfl rfl)
theorem dX0_areAlike_22 : decode cX0_areAlike 22 = .ok (.iaload, 1) := dk_46 (dk_at dksX0_areAlike_0 22 rfl rfl)
theorem dX0_areAlike_23 : decode cX0_areAlike 23 = .ok (.aaload, 1) := dk_50 (dk_at dksX0_areAlike_0 23 rfl rfl)
theorem dX0_areAlike_24 : decode cX0_areAlike 24 = .ok (.astore 5, 2) := dk_58 5 (dk_at dksX0_areAlike_1 0 rfl rfl)
theorem dX0_areAlike_26 : decode cX0_areAlike 26 = .ok (.aload_n 0, 1) := dk_42 (dk_at dksX0_areAlike_1 2 rfl rfl)
theorem dX0_areAlike_27 : decode cX0_areAlike 27 = .ok (.getfield 119, 3) := dk_180 0 119 (dk_at dksX0_areAlike_1 3 rfl rfl)
theorem dX0_areAlike_30 : decode cX0_areAlike 30 = .ok (.iload_n 1, 1) := dk_27 (dk_at dksX0_areAlike_1 6 rfl rfl)
theorem dX0_areAlike_31 : decode cX0_areAlike 31 = .ok (.iaload, 1) := dk_46 (dk_at dksX0_areAlike_1 7 rfl rfl)
theorem dX0_areAlike_32 : decode cX0_areAlike 32 = .ok (.aload_n 0, 1) := dk_42 (dk_at dksX0_areAlike_1 8 rfl rfl)
theorem dX0_areAlike_33 : decode cX0_areAlike 33 = .ok (.getfield 122, 3) := dk_180 0 122 (dk_at dksX0_areAlike_1 9 rfl rfl)
theorem dX0_areAlike_36 : decode cX0_areAlike 36 = .ok (.iload_n 1, 1) := dk_27 (dk_at dksX0_areAlike_1 12 rfl rfl)
theorem dX0_areAlike_37 : decode cX0_areAlike 37 = .ok (.iaload, 1) := dk_46 (dk_at dksX0_areAlike_1 13 rfl rfl)
theorem dX0_areAlike_38 : decode cX0_areAlike 38 = .ok (.isub, 1) := dk_100 (dk_at dksX0_areAlike_1 14 rfl rfl)
theorem dX0_areAlike_39 : decode cX0_areAlike 39 = .ok (.istore 6, 2) := dk_54 6 (dk_at dksX0_areAlike_1 15 rfl rfl)
theorem dX0_areAlike_41 : decode cX0_areAlike 41 = .ok (.iload 6, 2) := dk_21 6 (dk_at dksX0_areAlike_1 17 rfl rfl)
theorem dX0_areAlike_43 : decode cX0_areAlike 43 = .ok (.aload_n 0, 1) := dk_42 (dk_at dksX0_areAlike_1 19 rfl rfl)
theorem dX0_areAlike_44 : decode cX0_areAlike 44 = .ok (.getfield 119, 3) := dk_180 0 119 (dk_at dksX0_areAlike_1 20 rfl rfl)
theorem dX0_areAlike_47 : decode cX0_areAlike 47 = .ok (.iload_n 2, 1) := dk_28 (dk_at dksX0_areAlike_1 23 rfl rfl)
theorem dX0_areAlike_48 : decode cX0_areAlike 48 = .ok (.iaload, 1) := dk_46 (dk_at dksX0_areAlike_2 0 rfl rfl)
theorem dX0_areAlike_49 : decode cX0_areAlike 49 = .ok (.aload_n 0, 1) := dk_42 (dk_at dksX0_areAlike_2 1 rfl rfl)
theorem dX0_areAlike_50 : decode cX0_areAlike 50 = .ok (.getfield 122, 3) := dk_180 0 122 (dk_at dksX0_areAlike_2 2 rfl rfl)
theorem dX0_areAlike_53 : decode cX0_areAlike 53 = .ok (.iload_n 2, 1) := dk_28 (dk_at dksX0_areAlike_2 5 rfl rfl)
theorem dX0_areAlike_54 : decode cX0_areAlike 54 = .ok (.iaload, 1) := dk_46 (dk_at dksX0_areAlike_2 6 rfl rfl)
theorem dX0_areAlike_55 : decode cX0_areAlike 55 = .ok (.isub, 1) := dk_100 (dk_at dksX0_areAlike_2 7 rfl rfl)
theorem dX0_areAlike_56 : decode cX0_areAlike 56 = .ok (.if_icmp .ne 7, 3) := dk_160 0 7 (dk_at dksX0_areAlike_2 8 rfl rfl)
theorem dX0_areAlike_59 : decode cX0_areAlike 59 = .ok (.iconst 1, 1) := dk_4 (dk_at dksX0_areAlike_2 11 rfl rfl)
theorem dX0_areAlike_60 : decode cX0_areAlike 60 = .ok (.goto 4, 3) := dk_167 0 4 (dk_at dksX0_areAlike_2 12 rfl rfl)
theorem dX0_areAlike_63 : decode cX0_areAlike 63 = .ok (.iconst 0, 1) := dk_3 (dk_at dksX0_areAlike_2 15 rfl rfl)
theorem dX0_areAlike_64 : decode cX0_areAlike 64 = .ok (.istore 7, 2) := dk_54 7 (dk_at dksX0_areAlike_2 16 rfl rfl)
theorem dX0_areAlike_66 : decode cX0_areAlike 66 = .ok (.iconst 0, 1) := dk_3 (dk_at dksX0_areAlike_2 18 rfl rfl)
theorem dX0_areAlike_67 : decode cX0_areAlike 67 = .ok (.istore 8, 2) := dk_54 8 (dk_at dksX0_areAlike_2 19 rfl rfl)
theorem dX0_areAlike_69 : decode cX0_areAlike 69 = .ok (.iload 8, 2) := dk_21 8 (dk_at dksX0_areAlike_2 21 rfl rfl)
theorem dX0_areAlike_71 : decode cX0_areAlike 71 = .ok (.iload 6, 2) := dk_21 6 (dk_at dksX0_areAlike_3 0 rfl rfl)
theorem dX0_areAlike_73 : decode cX0_areAlike 73 = .ok (.iload_n 3, 1) := dk_29 (dk_at dksX0_areAlike_3 2 rfl rfl)
theorem dX0_areAlike_74 : decode cX0_areAlike 74 = .ok (.isub, 1) := dk_100 (dk_at dksX0_areAlike_3 3 rfl rfl)
theorem dX0_areAlike_75 : decode cX0_areAlike 75 = .ok (.if_icmp .ge 54, 3) := dk_162 0 54 (dk_at dksX0_areAlike_3 4 rfl rfl)
theorem dX0_areAlike_78 : decode cX0_areAlike 78 = .ok (.iload 7, 2) := dk_21 7 (dk_at dksX0_areAlike_3 7 rfl rfl)
theorem dX0_areAlike_80 : decode cX0_areAlike 80 = .ok (.ifCond .eq 49, 3) := dk_153 0 49 (dk_at dksX0_areAlike_3 9 rfl rfl)
theorem dX0_areAlike_83 : decode cX0_areAlike 83 = .ok (.aload_n 0, 1) := dk_42 (dk_at dksX0_areAlike_3 12 rfl rfl)
theorem dX0_areAlike_84 : decode cX0_areAlike 84 = .ok (.aload 4, 2) := dk_25 4 (dk_at dksX0_areAlike_3 13 rfl rfl)
theorem dX0_areAlike_86 : decode cX0_areAlike 86 = .ok (.aload_n 0, 1) := dk_42 (dk_at dksX0_areAlike_3 15 rfl rfl)
theorem dX0_areAlike_87 : decode cX0_areAlike 87 = .ok (.getfield 122, 3) := dk_180 0 122 (dk_at dksX0_areAlike_3 16 rfl rfl)
theorem dX0_areAlike_90 : decode cX0_areAlike 90 = .ok (.iload_n 1, 1) := dk_27 (dk_at dksX0_areAlike_3 19 rfl rfl)
theorem dX0_areAlike_91 : decode cX0_areAlike 91 = .ok (.iaload, 1) := dk_46 (dk_at dksX0_areAlike_3 20 rfl rfl)
theorem dX0_areAlike_92 : decode cX0_areAlike 92 = .ok (.iload 8, 2) := dk_21 8 (dk_at dksX0_areAlike_3 21 rfl rfl)
theorem dX0_areAlike_94 : decode cX0_areAlike 94 = .ok (.iadd, 1) := dk_96 (dk_at dksX0_areAlike_3 23 rfl rfl)
theorem dX0_areAlike_95 : decode cX0_areAlike 95 = .ok (.invokevirtual 71, 3) := dk_182 0 71 (dk_at dksX0_areAlike_4 0 rfl rfl)
theorem dX0_areAlike_98 : decode cX0_areAlike 98 = .ok (.aload_n 0, 1) := dk_42 (dk_at dksX0_areAlike_4 3 rfl rfl)
theorem dX0_areAlike_99 : decode cX0_areAlike 99 = .ok (.aload 5, 2) := dk_25 5 (dk_at dksX0_areAlike_4 4 rfl rfl)
theorem dX0_areAlike_101 : decode cX0_areAlike 101 = .ok (.aload_n 0, 1) := dk_42 (dk_at dksX0_areAlike_4 6 rfl rfl)
theorem dX0_areAlike_102 : decode cX0_areAlike 102 = .ok (.getfield 122, 3) := dk_180 0 122 (dk_at dksX0_areAlike_4 7 rfl rfl)
theorem dX0_areAlike_105 : decode cX0_areAlike 105 = .ok (.iload_n 2, 1) := dk_28 (dk_at dksX0_areAlike_4 10 rfl rfl)
theorem dX0_areAlike_106 : decode cX0_areAlike 106 = .ok (.iaload, 1) := dk_46 (dk_at dksX0_areAlike_4 11 rfl rfl)
theorem dX0_areAlike_107 : decode cX0_areAlike 107 = .ok (.iload 8, 2) := dk_21 8 (dk_at dksX0_areAlike_4 12 rfl rfl)
theorem dX0_areAlike_109 : decode cX0_areAlike 109 = .ok (.iadd, 1) := dk_96 (dk_at dksX0_areAlike_4 14 rfl rfl)
theorem dX0_areAlike_110 : decode cX0_areAlike 110 = .ok (.invokevirtual 71, 3) := dk_182 0 71 (dk_at dksX0_areAlike_4 15 rfl rfl)
theorem dX0_areAlike_113 : decode cX0_areAlike 113 = .ok (.if_icmp .ne 7, 3) := dk_160 0 7 (dk_at dksX0_areAlike_4 18 rfl rfl)
theorem dX0_areAlike_116 : decode cX0_areAlike 116 = .ok (.iconst 1, 1) := dk_4 (dk_at dksX0_areAlike_4 21 rfl rfl)
theorem dX0_areAlike_117 : decode cX0_areAlike 117 = .ok (.goto 4, 3) := dk_167 0 4 (dk_at dksX0_areAlike_5 0 rfl rfl)
theorem dX0_areAlike_120 : decode cX0_areAlike 120 = .ok (.iconst 0, 1) := dk_3 (dk_at dksX0_areAlike_5 3 rfl rfl)
theorem dX0_areAlike_121 : decode cX0_areAlike 121 = .ok (.istore 7, 2) := dk_54 7 (dk_at dksX0_areAlike_5 4 rfl rfl)
theorem dX0_areAlike_123 : decode cX0_areAlike 123 = .ok (.iinc 8 1, 3) := dk_132 8 1 (dk_at dksX0_areAlike_5 6 rfl rfl)
theorem dX0_areAlike_126 : decode cX0_areAlike 126 = .ok (.goto (-57), 3) := dk_167 255 199 (dk_at dksX0_areAlike_5 9 rfl rfl)
theorem dX0_areAlike_129 : decode cX0_areAlike 129 = .ok (.iload 7, 2) := dk_21 7 (dk_at dksX0_areAlike_5 12 rfl rfl)
theorem dX0_areAlike_131 : decode cX0_areAlike 131 = .ok (.ireturn, 1) := dk_172 (dk_at dksX0_areAlike_5 14 rfl rfl)
abbrev cX0_lastOf : ByteArray := prog_1_method_24_code
def yX0_lastOf : MethodName := ⟨RX0, "lastOf", "(I)I"⟩
def dkwX0_lastOf_0 : List UInt8 := [42, 42, 180, 0, 61, 42, 180, 0, 116, 27, 46, 50, 42, 180, 0, 119, 27, 46, 4, 100, 182, 0, 71, 172]
abbrev dktX0_lastOf_0 : List UInt8 := dkwX0_lastOf_0 ++ []
theorem dksX0_lastOf_0 : cX0_lastOf.data.toList.drop 0 = dktX0_lastOf_0 := by decide +kernel
theorem dX0_lastOf_0 : decode cX0_lastOf 0 = .ok (.aload_n 0, 1) := dk_42 (dk_at dksX0_lastOf_0 0 rfl rfl)
theorem dX0_lastOf_1 : decode cX0_lastOf 1 = .ok (.aload_n 0, 1) := dk_42 (dk_at dksX0_lastOf_0 1 rfl rfl)
theorem dX0_lastOf_2 : decode cX0_lastOf 2 = .ok (.getfield 61, 3) := dk_180 0 61 (dk_at dksX0_lastOf_0 2 rfl rfl)
theorem dX0_lastOf_5 : decode cX0_lastOf 5 = .ok (.aload_n 0, 1) := dk_42 (dk_at dksX0_lastOf_0 5 rfl rfl)
theorem dX0_lastOf_6 : decode cX0_lastOf 6 = .ok (.getfield 116, 3) := dk_180 0 116 (dk_at dksX0_lastOf_0 6 rfl rfl)
theorem dX0_lastOf_9 : decode cX0_lastOf 9 = .ok (.iload_n 1, 1) := dk_27 (dk_at dksX0_lastOf_0 9 rfl rfl)
theorem dX0_lastOf_10 : decode cX0_lastOf 10 = .ok (.iaload, 1) := dk_46 (dk_at dksX0_lastOf_0 10 rfl rfl)
theorem dX0_lastOf_11 : decode cX0_lastOf 11 = .ok (.aaload, 1) := dk_50 (dk_at dksX0_lastOf_0 11 rfl rfl)
theorem dX0_lastOf_12 : decode cX0_lastOf 12 = .ok (.aload_n 0, 1) := dk_42 (dk_at dksX0_lastOf_0 12 rfl rfl)
theorem dX0_lastOf_13 : decode cX0_lastOf 13 = .ok (.getfield 119, 3) := dk_180 0 119 (dk_at dksX0_lastOf_0 13 rfl rfl)
theorem dX0_lastOf_16 : decode cX0_lastOf 16 = .ok (.iload_n 1, 1) := dk_27 (dk_at dksX0_lastOf_0 16 rfl rfl)
theorem dX0_lastOf_17 : decode cX0_lastOf 17 = .ok (.iaload, 1) := dk_46 (dk_at dksX0_lastOf_0 17 rfl rfl)
theorem dX0_lastOf_18 : decode cX0_lastOf 18 = .ok (.iconst 1, 1) := dk_4 (dk_at dksX0_lastOf_0 18 rfl rfl)
theorem dX0_lastOf_19 : decode cX0_lastOf 19 = .ok (.isub, 1) := dk_100 (dk_at dksX0_lastOf_0 19 rfl rfl)
theorem dX0_lastOf_20 : decode cX0_lastOf 20 = .ok (.invokevirtual 71, 3) := dk_182 0 71 (dk_at dksX0_lastOf_0 20 rfl rfl)
theorem dX0_lastOf_23 : decode cX0_lastOf 23 = .ok (.ireturn, 1) := dk_172 (dk_at dksX0_lastOf_0 23 rfl rfl)
abbrev cX0_apart : ByteArray := prog_1_method_27_code
def yX0_apart : MethodName := ⟨RX0, "apart", "(III)I"⟩
def dkwX0_apart_2 : List UInt8 := [180, 0, 145, 27, 50, 28, 29, 79, 42, 180, 0, 145, 28, 50, 27, 29, 79, 21, 4, 172]
abbrev dktX0_apart_2 : List UInt8 := dkwX0_apart_2 ++ []
def dkwX0_apart_1 : List UInt8 := [20, 0, 151, 184, 0, 5, 154, 0, 5, 2, 172, 42, 180, 0, 145, 27, 50, 28, 46, 54, 4, 42]
abbrev dktX0_apart_1 : List UInt8 := dkwX0_apart_1 ++ dktX0_apart_2
def dkwX0_apart_0 : List UInt8 := [42, 27, 182, 0, 34, 153, 0, 28, 42, 28, 182, 0, 34, 153, 0, 20, 27, 28, 159, 0, 15, 29, 133, 9]
abbrev dktX0_apart_0 : List UInt8 := dkwX0_apart_0 ++ dktX0_apart_1
theorem dksX0_apart_0 : cX0_apart.data.toList.drop 0 = dktX0_apart_0 := by decide +kernel
theorem dksX0_apart_1 : cX0_apart.data.toList.drop 24 = dktX0_apart_1 := dk_seg dksX0_apart_0 24 rfl rfl
theorem dksX0_apart_2 : cX0_apart.data.toList.drop 46 = dktX0_apart_2 := dk_seg dksX0_apart_1 22 rfl rfl
theorem dX0_apart_0 : decode cX0_apart 0 = .ok (.aload_n 0, 1) := dk_42 (dk_at dksX0_apart_0 0 rfl rfl)
theorem dX0_apart_1 : decode cX0_apart 1 = .ok (.iload_n 1, 1) := dk_27 (dk_at dksX0_apart_0 1 rfl rfl)
theorem dX0_apart_2 : decode cX0_apart 2 = .ok (.invokevirtual 34, 3) := dk_182 0 34 (dk_at dksX0_apart_0 2 rfl rfl)
theorem dX0_apart_5 : decode cX0_apart 5 = .ok (.ifCond .eq 28, 3) := dk_153 0 28 (dk_at dksX0_apart_0 5 rfl rfl)
theorem dX0_apart_8 : decode cX0_apart 8 = .ok (.aload_n 0, 1) := dk_42 (dk_at dksX0_apart_0 8 rfl rfl)
theorem dX0_apart_9 : decode cX0_apart 9 = .ok (.iload_n 2, 1) := dk_28 (dk_at dksX0_apart_0 9 rfl rfl)
theorem dX0_apart_10 : decode cX0_apart 10 = .ok (.invokevirtual 34, 3) := dk_182 0 34 (dk_at dksX0_apart_0 10 rfl rfl)
theorem dX0_apart_13 : decode cX0_apart 13 = .ok (.ifCond .eq 20, 3) := dk_153 0 20 (dk_at dksX0_apart_0 13 rfl rfl)
theorem dX0_apart_16 : decode cX0_apart 16 = .ok (.iload_n 1, 1) := dk_27 (dk_at dksX0_apart_0 16 rfl rfl)
theorem dX0_apart_17 : decode cX0_apart 17 = .ok (.iload_n 2, 1) := dk_28 (dk_at dksX0_apart_0 17 rfl rfl)
theorem dX0_apart_18 : decode cX0_apart 18 = .ok (.if_icmp .eq 15, 3) := dk_159 0 15 (dk_at dksX0_apart_0 18 rfl rfl)
theorem dX0_apart_21 : decode cX0_apart 21 = .ok (.iload_n 3, 1) := dk_29 (dk_at dksX0_apart_0 21 rfl rfl)
theorem dX0_apart_22 : decode cX0_apart 22 = .ok (.i2l, 1) := dk_133 (dk_at dksX0_apart_0 22 rfl rfl)
theorem dX0_apart_23 : decode cX0_apart 23 = .ok (.lconst 0, 1) := dk_9 (dk_at dksX0_apart_0 23 rfl rfl)
theorem dX0_apart_24 : decode cX0_apart 24 = .ok (.ldc2_w 151, 3) := dk_20 0 151 (dk_at dksX0_apart_1 0 rfl rfl)
theorem dX0_apart_27 : decode cX0_apart 27 = .ok (.invokestatic 5, 3) := dk_184 0 5 (dk_at dksX0_apart_1 3 rfl rfl)
theorem dX0_apart_30 : decode cX0_apart 30 = .ok (.ifCond .ne 5, 3) := dk_154 0 5 (dk_at dksX0_apart_1 6 rfl rfl)
theorem dX0_apart_33 : decode cX0_apart 33 = .ok (.iconst (-1), 1) := dk_2 (dk_at dksX0_apart_1 9 rfl rfl)
theorem dX0_apart_34 : decode cX0_apart 34 = .ok (.ireturn, 1) := dk_172 (dk_at dksX0_apart_1 10 rfl rfl)
theorem dX0_apart_35 : decode cX0_apart 35 = .ok (.aload_n 0, 1) := dk_42 (dk_at dksX0_apart_1 11 rfl rfl)
theorem dX0_apart_36 : decode cX0_apart 36 = .ok (.getfield 145, 3) := dk_180 0 145 (dk_at dksX0_apart_1 12 rfl rfl)
theorem dX0_apart_39 : decode cX0_apart 39 = .ok (.iload_n 1, 1) := dk_27 (dk_at dksX0_apart_1 15 rfl rfl)
theorem dX0_apart_40 : decode cX0_apart 40 = .ok (.aaload, 1) := dk_50 (dk_at dksX0_apart_1 16 rfl rfl)
theorem dX0_apart_41 : decode cX0_apart 41 = .ok (.iload_n 2, 1) := dk_28 (dk_at dksX0_apart_1 17 rfl rfl)
theorem dX0_apart_42 : decode cX0_apart 42 = .ok (.iaload, 1) := dk_46 (dk_at dksX0_apart_1 18 rfl rfl)
theorem dX0_apart_43 : decode cX0_apart 43 = .ok (.istore 4, 2) := dk_54 4 (dk_at dksX0_apart_1 19 rfl rfl)
theorem dX0_apart_45 : decode cX0_apart 45 = .ok (.aload_n 0, 1) := dk_42 (dk_at dksX0_apart_1 21 rfl rfl)
theorem dX0_apart_46 : decode cX0_apart 46 = .ok (.getfield 145, 3) := dk_180 0 145 (dk_at dksX0_apart_2 0 rfl rfl)
theorem dX0_apart_49 : decode cX0_apart 49 = .ok (.iload_n 1, 1) := dk_27 (dk_at dksX0_apart_2 3 rfl rfl)
theorem dX0_apart_50 : decode cX0_apart 50 = .ok (.aaload, 1) := dk_50 (dk_at dksX0_apart_2 4 rfl rfl)
theorem dX0_apart_51 : decode cX0_apart 51 = .ok (.iload_n 2, 1) := dk_28 (dk_at dksX0_apart_2 5 rfl rfl)
theorem dX0_apart_52 : decode cX0_apart 52 = .ok (.iload_n 3, 1) := dk_29 (dk_at dksX0_apart_2 6 rfl rfl)
theorem dX0_apart_53 : decode cX0_apart 53 = .ok (.iastore, 1) := dk_79 (dk_at dksX0_apart_2 7 rfl rfl)
theorem dX0_apart_54 : decode cX0_apart 54 = .ok (.aload_n 0, 1) := dk_42 (dk_at dksX0_apart_2 8 rfl rfl)
theorem dX0_apart_55 : decode cX0_apart 55 = .ok (.getfield 145, 3) := dk_180 0 145 (dk_at dksX0_apart_2 9 rfl rfl)
theorem dX0_apart_58 : decode cX0_apart 58 = .ok (.iload_n 2, 1) := dk_28 (dk_at dksX0_apart_2 12 rfl rfl)
theorem dX0_apart_59 : decode cX0_apart 59 = .ok (.aaload, 1) := dk_50 (dk_at dksX0_apart_2 13 rfl rfl)
theorem dX0_apart_60 : decode cX0_apart 60 = .ok (.iload_n 1, 1) := dk_27 (dk_at dksX0_apart_2 14 rfl rfl)
theorem dX0_apart_61 : decode cX0_apart 61 = .ok (.iload_n 3, 1) := dk_29 (dk_at dksX0_apart_2 15 rfl rfl)
theorem dX0_apart_62 : decode cX0_apart 62 = .ok (.iastore, 1) := dk_79 (dk_at dksX0_apart_2 16 rfl rfl)
theorem dX0_apart_63 : decode cX0_apart 63 = .ok (.iload 4, 2) := dk_21 4 (dk_at dksX0_apart_2 17 rfl rfl)
theorem dX0_apart_65 : decode cX0_apart 65 = .ok (.ireturn, 1) := dk_172 (dk_at dksX0_apart_2 19 rfl rfl)
abbrev cX0_grid : ByteArray := prog_1_method_30_code
def yX0_grid : MethodName := ⟨RX0, "grid", "(II)I"⟩
def dkwX0_grid_4 : List UInt8 := [180, 0, 153, 167, 0, 4, 2, 172]
abbrev dktX0_grid_4 : List UInt8 := dkwX0_grid_4 ++ []
def dkwX0_grid_3 : List UInt8 := [180, 0, 166, 28, 16, 30, 100, 46, 172, 28, 154, 0, 7, 29, 167, 0, 16, 28, 4, 160, 0, 10, 42]
abbrev dktX0_grid_3 : List UInt8 := dkwX0_grid_3 ++ dktX0_grid_4
def dkwX0_grid_2 : List UInt8 := [100, 46, 172, 28, 133, 20, 0, 178, 16, 29, 42, 180, 0, 153, 96, 133, 184, 0, 5, 153, 0, 13, 42]
abbrev dktX0_grid_2 : List UInt8 := dkwX0_grid_2 ++ dktX0_grid_3
def dkwX0_grid_1 : List UInt8 := [20, 0, 65, 16, 9, 42, 180, 0, 153, 96, 133, 184, 0, 5, 153, 0, 13, 42, 180, 0, 156, 28, 16, 10]
abbrev dktX0_grid_1 : List UInt8 := dkwX0_grid_1 ++ dktX0_grid_2
def dkwX0_grid_0 : List UInt8 := [27, 133, 10, 20, 0, 42, 184, 0, 5, 154, 0, 5, 2, 172, 42, 27, 182, 0, 175, 62, 28, 133]
abbrev dktX0_grid_0 : List UInt8 := dkwX0_grid_0 ++ dktX0_grid_1
theorem dksX0_grid_0 : cX0_grid.data.toList.drop 0 = dktX0_grid_0 := by decide +kernel
theorem dksX0_grid_1 : cX0_grid.data.toList.drop 22 = dktX0_grid_1 := dk_seg dksX0_grid_0 22 rfl rfl
theorem dksX0_grid_2 : cX0_grid.data.toList.drop 46 = dktX0_grid_2 := dk_seg dksX0_grid_1 24 rfl rfl
theorem dksX0_grid_3 : cX0_grid.data.toList.drop 69 = dktX0_grid_3 := dk_seg dksX0_grid_2 23 rfl rfl
theorem dksX0_grid_4 : cX0_grid.data.toList.drop 92 = dktX0_grid_4 := dk_seg dksX0_grid_3 23 rfl rfl
theorem dX0_grid_0 : decode cX0_grid 0 = .ok (.iload_n 1, 1) := dk_27 (dk_at dksX0_grid_0 0 rfl rfl)
theorem dX0_grid_1 : decode cX0_grid 1 = .ok (.i2l, 1) := dk_133 (dk_at dksX0_grid_0 1 rfl rfl)
theorem dX0_grid_2 : decode cX0_grid 2 = .ok (.lconst 1, 1) := dk_10 (dk_at dksX0_grid_0 2 rfl rfl)
theorem dX0_grid_3 : decode cX0_grid 3 = .ok (.ldc2_w 42, 3) := dk_20 0 42 (dk_at dksX0_grid_0 3 rfl rfl)
theorem dX0_grid_6 : decode cX0_grid 6 = .ok (.invokestatic 5, 3) := dk_184 0 5 (dk_at dksX0_grid_0 6 rfl rfl)
theorem dX0_grid_9 : decode cX0_grid 9 = .ok (.ifCond .ne 5, 3) := dk_154 0 5 (dk_at dksX0_grid_0 9 rfl rfl)
theorem dX0_grid_12 : decode cX0_grid 12 = .ok (.iconst (-1), 1) := dk_2 (dk_at dksX0_grid_0 12 rfl rfl)
theorem dX0_grid_13 : decode cX0_grid 13 = .ok (.ireturn, 1) := dk_172 (dk_at dksX0_grid_0 13 rfl rfl)
theorem dX0_grid_14 : decode cX0_grid 14 = .ok (.aload_n 0, 1) := dk_42 (dk_at dksX0_grid_0 14 rfl rfl)
theorem dX0_grid_15 : decode cX0_grid 15 = .ok (.iload_n 1, 1) := dk_27 (dk_at dksX0_grid_0 15 rfl rfl)
theorem dX0_grid_16 : decode cX0_grid 16 = .ok (.invokevirtual 175, 3) := dk_182 0 175 (dk_at dksX0_grid_0 16 rfl rfl)
theorem dX0_grid_19 : decode cX0_grid 19 = .ok (.istore_n 3, 1) := dk_62 (dk_at dksX0_grid_0 19 rfl rfl)
theorem dX0_grid_20 : decode cX0_grid 20 = .ok (.iload_n 2, 1) := dk_28 (dk_at dksX0_grid_0 20 rfl rfl)
theorem dX0_grid_21 : decode cX0_grid 21 = .ok (.i2l, 1) := dk_133 (dk_at dksX0_grid_0 21 rfl rfl)
theorem dX0_grid_22 : decode cX0_grid 22 = .ok (.ldc2_w 65, 3) := dk_20 0 65 (dk_at dksX0_grid_1 0 rfl rfl)
theorem dX0_grid_25 : decode cX0_grid 25 = .ok (.bipush 9, 2) := dk_16 9 (dk_at dksX0_grid_1 3 rfl rfl)
theorem dX0_grid_27 : decode cX0_grid 27 = .ok (.aload_n 0, 1) := dk_42 (dk_at dksX0_grid_1 5 rfl rfl)
theorem dX0_grid_28 : decode cX0_grid 28 = .ok (.getfield 153, 3) := dk_180 0 153 (dk_at dksX0_grid_1 6 rfl rfl)
theorem dX0_grid_31 : decode cX0_grid 31 = .ok (.iadd, 1) := dk_96 (dk_at dksX0_grid_1 9 rfl rfl)
theorem dX0_grid_32 : decode cX0_grid 32 = .ok (.i2l, 1) := dk_133 (dk_at dksX0_grid_1 10 rfl rfl)
theorem dX0_grid_33 : decode cX0_grid 33 = .ok (.invokestatic 5, 3) := dk_184 0 5 (dk_at dksX0_grid_1 11 rfl rfl)
theorem dX0_grid_36 : decode cX0_grid 36 = .ok (.ifCond .eq 13, 3) := dk_153 0 13 (dk_at dksX0_grid_1 14 rfl rfl)
theorem dX0_grid_39 : decode cX0_grid 39 = .ok (.aload_n 0, 1) := dk_42 (dk_at dksX0_grid_1 17 rfl rfl)
theorem dX0_grid_40 : decode cX0_grid 40 = .ok (.getfield 156, 3) := dk_180 0 156 (dk_at dksX0_grid_1 18 rfl rfl)
theorem dX0_grid_43 : decode cX0_grid 43 = .ok (.iload_n 2, 1) := dk_28 (dk_at dksX0_grid_1 21 rfl rfl)
theorem dX0_grid_44 : decode cX0_grid 44 = .ok (.bipush 10, 2) := dk_16 10 (dk_at dksX0_grid_1 22 rfl rfl)
theorem dX0_grid_46 : decode cX0_grid 46 = .ok (.isub, 1) := dk_100 (dk_at dksX0_grid_2 0 rfl rfl)
theorem dX0_grid_47 : decode cX0_grid 47 = .ok (.iaload, 1) := dk_46 (dk_at dksX0_grid_2 1 rfl rfl)
theorem dX0_grid_48 : decode cX0_grid 48 = .ok (.ireturn, 1) := dk_172 (dk_at dksX0_grid_2 2 rfl rfl)
theorem dX0_grid_49 : decode cX0_grid 49 = .ok (.iload_n 2, 1) := dk_28 (dk_at dksX0_grid_2 3 rfl rfl)
theorem dX0_grid_50 : decode cX0_grid 50 = .ok (.i2l, 1) := dk_133 (dk_at dksX0_grid_2 4 rfl rfl)
theorem dX0_grid_51 : decode cX0_grid 51 = .ok (.ldc2_w 178, 3) := dk_20 0 178 (dk_at dksX0_grid_2 5 rfl rfl)
theorem dX0_grid_54 : decode cX0_grid 54 = .ok (.bipush 29, 2) := dk_16 29 (dk_at dksX0_grid_2 8 rfl rfl)
theorem dX0_grid_56 : decode cX0_grid 56 = .ok (.aload_n 0, 1) := dk_42 (dk_at dksX0_grid_2 10 rfl rfl)
theorem dX0_grid_57 : decode cX0_grid 57 = .ok (.getfield 153, 3) := dk_180 0 153 (dk_at dksX0_grid_2 11 rfl rfl)
theorem dX0_grid_60 : decode cX0_grid 60 = .ok (.iadd, 1) := dk_96 (dk_at dksX0_grid_2 14 rfl rfl)
theorem dX0_grid_61 : decode cX0_grid 61 = .ok (.i2l, 1) := dk_133 (dk_at dksX0_grid_2 15 rfl rfl)
theorem dX0_grid_62 : decode cX0_grid 62 = .ok (.invokestatic 5, 3) := dk_184 0 5 (dk_at dksX0_grid_2 16 rfl rfl)
theorem dX0_grid_65 : decode cX0_grid 65 = .ok (.ifCond .eq 13, 3) := dk_153 0 13 (dk_at dksX0_grid_2 19 rfl rfl)
theorem dX0_grid_68 : decode cX0_grid 68 = .ok (.aload_n 0, 1) := dk_42 (dk_at dksX0_grid_2 22 rfl rfl)
theorem dX0_grid_69 : decode cX0_grid 69 = .ok (.getfield 166, 3) := dk_180 0 166 (dk_at dksX0_grid_3 0 rfl rfl)
theorem dX0_grid_72 : decode cX0_grid 72 = .ok (.iload_n 2, 1) := dk_28 (dk_at dksX0_grid_3 3 rfl rfl)
theorem dX0_grid_73 : decode cX0_grid 73 = .ok (.bipush 30, 2) := dk_16 30 (dk_at dksX0_grid_3 4 rfl rfl)
theorem dX0_grid_75 : decode cX0_grid 75 = .ok (.isub, 1) := dk_100 (dk_at dksX0_grid_3 6 rfl rfl)
theorem dX0_grid_76 : decode cX0_grid 76 = .ok (.iaload, 1) := dk_46 (dk_at dksX0_grid_3 7 rfl rfl)
theorem dX0_grid_77 : decode cX0_grid 77 = .ok (.ireturn, 1) := dk_172 (dk_at dksX0_grid_3 8 rfl rfl)
theorem dX0_grid_78 : decode cX0_grid 78 = .ok (.iload_n 2, 1) := dk_28 (dk_at dksX0_grid_3 9 rfl rfl)
theorem dX0_grid_79 : decode cX0_grid 79 = .ok (.ifCond .ne 7, 3) := dk_154 0 7 (dk_at dksX0_grid_3 10 rfl rfl)
theorem dX0_grid_82 : decode cX0_grid 82 = .ok (.iload_n 3, 1) := dk_29 (dk_at dksX0_grid_3 13 rfl rfl)
theorem dX0_grid_83 : decode cX0_grid 83 = .ok (.goto 16, 3) := dk_167 0 16 (dk_at dksX0_grid_3 14 rfl rfl)
theorem dX0_grid_86 : decode cX0_grid 86 = .ok (.iload_n 2, 1) := dk_28 (dk_at dksX0_grid_3 17 rfl rfl)
theorem dX0_grid_87 : decode cX0_grid 87 = .ok (.iconst 1, 1) := dk_4 (dk_at dksX0_grid_3 18 rfl rfl)
theorem dX0_grid_88 : decode cX0_grid 88 = .ok (.if_icmp .ne 10, 3) := dk_160 0 10 (dk_at dksX0_grid_3 19 rfl rfl)
theorem dX0_grid_91 : decode cX0_grid 91 = .ok (.aload_n 0, 1) := dk_42 (dk_at dksX0_grid_3 22 rfl rfl)
theorem dX0_grid_92 : decode cX0_grid 92 = .ok (.getfield 153, 3) := dk_180 0 153 (dk_at dksX0_grid_4 0 rfl rfl)
theorem dX0_grid_95 : decode cX0_grid 95 = .ok (.goto 4, 3) := dk_167 0 4 (dk_at dksX0_grid_4 3 rfl rfl)
theorem dX0_grid_98 : decode cX0_grid 98 = .ok (.iconst (-1), 1) := dk_2 (dk_at dksX0_grid_4 6 rfl rfl)
theorem dX0_grid_99 : decode cX0_grid 99 = .ok (.ireturn, 1) := dk_172 (dk_at dksX0_grid_4 7 rfl rfl)
abbrev cX0_layGrid : ByteArray := prog_1_method_29_code
def yX0_layGrid : MethodName := ⟨RX0, "layGrid", "(I)I"⟩
def dkwX0_layGrid_9 : List UInt8 := [167, 255, 156, 28, 172]
abbrev dktX0_layGrid_9 : List UInt8 := dkwX0_layGrid_9 ++ []
def dkwX0_layGrid_8 : List UInt8 := [155, 0, 7, 4, 167, 0, 4, 3, 62, 29, 153, 0, 14, 42, 180, 0, 159, 21, 5, 92, 46, 4, 96, 79]
abbrev dktX0_layGrid_8 : List UInt8 := dkwX0_layGrid_8 ++ dktX0_layGrid_9
def dkwX0_layGrid_7 : List UInt8 := [46, 27, 4, 100, 160, 0, 17, 42, 180, 0, 159, 21, 5, 3, 79, 132, 5, 255, 167, 255, 227, 21, 5]
abbrev dktX0_layGrid_7 : List UInt8 := dkwX0_layGrid_7 ++ dktX0_layGrid_8
def dkwX0_layGrid_6 : List UInt8 := [16, 8, 184, 0, 169, 42, 180, 0, 153, 4, 100, 54, 5, 21, 5, 155, 0, 30, 42, 180, 0, 159, 21, 5]
abbrev dktX0_layGrid_6 : List UInt8 := dkwX0_layGrid_6 ++ dktX0_layGrid_7
def dkwX0_layGrid_5 : List UInt8 := [182, 0, 163, 54, 4, 21, 4, 28, 162, 0, 21, 21, 4, 61, 42, 180, 0, 159, 3, 42, 180, 0, 166, 3]
abbrev dktX0_layGrid_5 : List UInt8 := dkwX0_layGrid_5 ++ dktX0_layGrid_6
def dkwX0_layGrid_4 : List UInt8 := [132, 2, 1, 167, 255, 170, 42, 180, 0, 159, 3, 184, 0, 104, 18, 162, 61, 4, 62, 29, 153, 0, 102, 42]
abbrev dktX0_layGrid_4 : List UInt8 := dkwX0_layGrid_4 ++ dktX0_layGrid_5
def dkwX0_layGrid_3 : List UInt8 := [158, 0, 23, 42, 180, 0, 156, 42, 180, 0, 153, 28, 79, 42, 89, 180, 0, 153, 4, 96, 181, 0, 153]
abbrev dktX0_layGrid_3 : List UInt8 := dkwX0_layGrid_3 ++ dktX0_layGrid_4
def dkwX0_layGrid_2 : List UInt8 := [28, 50, 21, 4, 46, 42, 180, 0, 139, 28, 50, 21, 4, 46, 96, 96, 62, 132, 4, 1, 167, 255, 222, 29]
abbrev dktX0_layGrid_2 : List UInt8 := dkwX0_layGrid_2 ++ dktX0_layGrid_3
def dkwX0_layGrid_1 : List UInt8 := [16, 8, 162, 0, 75, 3, 62, 3, 54, 4, 21, 4, 42, 180, 0, 9, 162, 0, 31, 29, 42, 180, 0, 135]
abbrev dktX0_layGrid_1 : List UInt8 := dkwX0_layGrid_1 ++ dktX0_layGrid_2
def dkwX0_layGrid_0 : List UInt8 := [42, 182, 0, 148, 42, 3, 181, 0, 153, 3, 61, 28, 42, 180, 0, 9, 162, 0, 84, 42, 180, 0, 153]
abbrev dktX0_layGrid_0 : List UInt8 := dkwX0_layGrid_0 ++ dktX0_layGrid_1
theorem dksX0_layGrid_0 : cX0_layGrid.data.toList.drop 0 = dktX0_layGrid_0 := by decide +kernel
theorem dksX0_layGrid_1 : cX0_layGrid.data.toList.drop 23 = dktX0_layGrid_1 := dk_seg dksX0_layGrid_0 23 rfl rfl
theorem dksX0_layGrid_2 : cX0_layGrid.data.toList.drop 47 = dktX0_layGrid_2 := dk_seg dksX0_layGrid_1 24 rfl rfl
theorem dksX0_layGrid_3 : cX0_layGrid.data.toList.drop 71 = dktX0_layGrid_3 := dk_seg dksX0_layGrid_2 24 rfl rfl
theorem dksX0_layGrid_4 : cX0_layGrid.data.toList.drop 94 = dktX0_layGrid_4 := dk_seg dksX0_layGrid_3 23 rfl rfl
theorem dksX0_layGrid_5 : cX0_layGrid.data.toList.drop 118 = dktX0_layGrid_5 := dk_seg dksX0_layGrid_4 24 rfl rfl
theorem dksX0_layGrid_6 : cX0_layGrid.data.toList.drop 142 = dktX0_layGrid_6 := dk_seg dksX0_layGrid_5 24 rfl rfl
theorem dksX0_layGrid_7 : cX0_layGrid.data.toList.drop 166 = dktX0_layGrid_7 := dk_seg dksX0_layGrid_6 24 rfl rfl
theorem dksX0_layGrid_8 : cX0_layGrid.data.toList.drop 189 = dktX0_layGrid_8 := dk_seg dksX0_layGrid_7 23 rfl rfl
theorem dksX0_layGrid_9 : cX0_layGrid.data.toList.drop 213 = dktX0_layGrid_9 := dk_seg dksX0_layGrid_8 24 rfl rfl
theorem dX0_layGrid_0 : decode cX0_layGrid 0 = .ok (.aload_n 0, 1) := dk_42 (dk_at dksX0_layGrid_0 0 rfl rfl)
theorem dX0_layGrid_1 : decode cX0_layGrid 1 = .ok (.invokevirtual 148, 3) := dk_182 0 148 (dk_at dksX0_layGrid_0 1 rfl rfl)
theorem dX0_layGrid_4 : decode cX0_layGrid 4 = .ok (.aload_n 0, 1) := dk_42 (dk_at dksX0_layGrid_0 4 rfl rfl)
theorem dX0_layGrid_5 : decode cX0_layGrid 5 = .ok (.iconst 0, 1) := dk_3 (dk_at dksX0_layGrid_0 5 rfl rfl)
theorem dX0_layGrid_6 : decode cX0_layGrid 6 = .ok (.putfield 153, 3) := dk_181 0 153 (dk_at dksX0_layGrid_0 6 rfl rfl)
theorem dX0_layGrid_9 : decode cX0_layGrid 9 = .ok (.iconst 0, 1) := dk_3 (dk_at dksX0_layGrid_0 9 rfl rfl)
theorem dX0_layGrid_10 : decode cX0_layGrid 10 = .ok (.istore_n 2, 1) := dk_61 (dk_at dksX0_layGrid_0 10 rfl rfl)
theorem dX0_layGrid_11 : decode cX0_layGrid 11 = .ok (.iload_n 2, 1) := dk_28 (dk_at dksX0_layGrid_0 11 rfl rfl)
theorem dX0_layGrid_12 : decode cX0_layGrid 12 = .ok (.aload_n 0, 1) := dk_42 (dk_at dksX0_layGrid_0 12 rfl rfl)
theorem dX0_layGrid_13 : decode cX0_layGrid 13 = .ok (.getfield 9, 3) := dk_180 0 9 (dk_at dksX0_layGrid_0 13 rfl rfl)
theorem dX0_layGrid_16 : decode cX0_layGrid 16 = .ok (.if_icmp .ge 84, 3) := dk_162 0 84 (dk_at dksX0_layGrid_0 16 rfl rfl)
theorem dX0_layGrid_19 : decode cX0_layGrid 19 = .ok (.aload_n 0, 1) := dk_42 (dk_at dksX0_layGrid_0 19 rfl rfl)
theorem dX0_layGrid_20 : decode cX0_layGrid 20 = .ok (.getfield 153, 3) := dk_180 0 153 (dk_at dksX0_layGrid_0 20 rfl rfl)
theorem dX0_layGrid_23 : decode cX0_layGrid 23 = .ok (.bipush 8, 2) := dk_16 8 (dk_at dksX0_layGrid_1 0 rfl rfl)
theorem dX0_layGrid_25 : decode cX0_layGrid 25 = .ok (.if_icmp .ge 75, 3) := dk_162 0 75 (dk_at dksX0_layGrid_1 2 rfl rfl)
theorem dX0_layGrid_28 : decode cX0_layGrid 28 = .ok (.iconst 0, 1) := dk_3 (dk_at dksX0_layGrid_1 5 rfl rfl)
theorem dX0_layGrid_29 : decode cX0_layGrid 29 = .ok (.istore_n 3, 1) := dk_62 (dk_at dksX0_layGrid_1 6 rfl rfl)
theorem dX0_layGrid_30 : decode cX0_layGrid 30 = .ok (.iconst 0, 1) := dk_3 (dk_at dksX0_layGrid_1 7 rfl rfl)
theorem dX0_layGrid_31 : decode cX0_layGrid 31 = .ok (.istore 4, 2) := dk_54 4 (dk_at dksX0_layGrid_1 8 rfl rfl)
theorem dX0_layGrid_33 : decode cX0_layGrid 33 = .ok (.iload 4, 2) := dk_21 4 (dk_at dksX0_layGrid_1 10 rfl rfl)
theorem dX0_layGrid_35 : decode cX0_layGrid 35 = .ok (.aload_n 0, 1) := dk_42 (dk_at dksX0_layGrid_1 12 rfl rfl)
theorem dX0_layGrid_36 : decode cX0_layGrid 36 = .ok (.getfield 9, 3) := dk_180 0 9 (dk_at dksX0_layGrid_1 13 rfl rfl)
theorem dX0_layGrid_39 : decode cX0_layGrid 39 = .ok (.if_icmp .ge 31, 3) := dk_162 0 31 (dk_at dksX0_layGrid_1 16 rfl rfl)
theorem dX0_layGrid_42 : decode cX0_layGrid 42 = .ok (.iload_n 3, 1) := dk_29 (dk_at dksX0_layGrid_1 19 rfl rfl)
theorem dX0_layGrid_43 : decode cX0_layGrid 43 = .ok (.aload_n 0, 1) := dk_42 (dk_at dksX0_layGrid_1 20 rfl rfl)
theorem dX0_layGrid_44 : decode cX0_layGrid 44 = .ok (.getfield 135, 3) := dk_180 0 135 (dk_at dksX0_layGrid_1 21 rfl rfl)
theorem dX0_layGrid_47 : decode cX0_layGrid 47 = .ok (.iload_n 2, 1) := dk_28 (dk_at dksX0_layGrid_2 0 rfl rfl)
theorem dX0_layGrid_48 : decode cX0_layGrid 48 = .ok (.aaload, 1) := dk_50 (dk_at dksX0_layGrid_2 1 rfl rfl)
theorem dX0_layGrid_49 : decode cX0_layGrid 49 = .ok (.iload 4, 2) := dk_21 4 (dk_at dksX0_layGrid_2 2 rfl rfl)
theorem dX0_layGrid_51 : decode cX0_layGrid 51 = .ok (.iaload, 1) := dk_46 (dk_at dksX0_layGrid_2 4 rfl rfl)
theorem dX0_layGrid_52 : decode cX0_layGrid 52 = .ok (.aload_n 0, 1) := dk_42 (dk_at dksX0_layGrid_2 5 rfl rfl)
theorem dX0_layGrid_53 : decode cX0_layGrid 53 = .ok (.getfield 139, 3) := dk_180 0 139 (dk_at dksX0_layGrid_2 6 rfl rfl)
