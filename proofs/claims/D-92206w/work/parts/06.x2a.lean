/-! UnreadScriptModel -/
set_option maxRecDepth 100000
def RX2 : String := "UnreadScriptModel"
def TX2 : u_T := fun k => match k with
  | 0 => ("UnreadScriptModel", "forms", "I", false)
  | 1 => ("UnreadScriptModel", "features", "[I", true)
  | 2 => ("UnreadScriptModel", "likeness", "I", false)
  | 3 => ("UnreadScriptModel", "signOf", "[I", true)
  | 4 => ("UnreadScriptModel", "texts", "I", false)
  | 5 => ("UnreadScriptModel", "tMany", "[I", true)
  | 6 => ("UnreadScriptModel", "tCells", "[I", true)
  | 7 => ("UnreadScriptModel", "words", "I", false)
  | 8 => ("UnreadScriptModel", "wText", "[I", true)
  | 9 => ("UnreadScriptModel", "wFrom", "[I", true)
  | 10 => ("UnreadScriptModel", "wMany", "[I", true)
  | 11 => ("UnreadScriptModel", "isWhole", "[Z", true)
  | 12 => ("UnreadScriptModel", "edges", "[I", true)
  | 13 => ("UnreadScriptModel", "aparts", "[I", true)
  | 14 => ("UnreadScriptModel", "akins", "[I", true)
  | 15 => ("UnreadScriptModel", "gridMany", "I", false)
  | 16 => ("UnreadScriptModel", "gSign", "[I", true)
  | 17 => ("UnreadScriptModel", "gApart", "[I", true)
  | 18 => ("UnreadScriptModel", "gRow", "[I", true)
  | 19 => ("UnreadScriptModel", "bestRow", "[I", true)
  | 20 => ("UnreadScriptModel", "accounts", "I", false)
  | 21 => ("UnreadScriptModel", "items", "[I", true)
  | 22 => ("UnreadScriptModel", "totals", "[I", true)
  | 23 => ("UnreadScriptModel", "valued", "[I", true)
  | 24 => ("UnreadScriptModel", "fitting", "I", false)
  | 25 => ("UnreadScriptModel", "firstFit", "[I", true)
  | 26 => ("UnreadScriptModel", "isHad", "[Z", true)
  | 27 => ("UnreadScriptModel", "names", "I", false)
  | 28 => ("UnreadScriptModel", "nMany", "[I", true)
  | 29 => ("UnreadScriptModel", "nSounds", "[I", true)
  | 30 => ("UnreadScriptModel", "tongue", "I", false)
  | 31 => ("UnreadScriptModel", "tongueMany", "[I", true)
  | 32 => ("UnreadScriptModel", "tongueSounds", "[I", true)
  | 33 => ("UnreadScriptModel", "tabled", "I", false)
  | 34 => ("UnreadScriptModel", "table", "[I", true)
  | 35 => ("UnreadScriptModel", "spot", "[I", true)
  | 36 => ("UnreadScriptModel", "readable", "I", false)
  | 37 => ("UnreadScriptModel", "rMany", "[I", true)
  | 38 => ("UnreadScriptModel", "rPlaces", "[I", true)
  | 39 => ("UnreadScriptModel", "isWord", "[Z", true)
  | 40 => ("UnreadScriptModel", "best", "I", false)
  | 41 => ("UnreadScriptModel", "bestRead", "I", false)
  | 42 => ("UnreadScriptModel", "bestMany", "I", false)
  | 43 => ("UnreadScriptModel", "order", "[I", true)
  | 44 => ("UnreadScriptModel", "tape", "[I", true)
  | 45 => ("UnreadScriptModel", "taped", "I", false)
  | 46 => ("UnreadScriptModel", "pos", "I", false)
  | 47 => ("UnreadScriptModel", "from", "I", false)
  | 48 => ("UnreadScriptModel", "sort", "I", false)
  | 49 => ("UnreadScriptModel", "value", "I", false)
  | 50 => ("UnreadScriptModel", "fault", "I", false)
  | 51 => ("UnreadScriptModel", "wrongAt", "I", false)
  | 52 => ("UnreadScriptModel", "claims", "I", false)
  | 53 => ("UnreadScriptModel", "cKind", "[I", true)
  | 54 => ("UnreadScriptModel", "cNumber", "[I", true)
  | 55 => ("UnreadScriptModel", "cCame", "[I", true)
  | 56 => ("UnreadScriptModel", "cGone", "[I", true)
  | 57 => ("UnreadScriptModel", "cOn", "[I", true)
  | 58 => ("UnreadScriptModel", "today", "I", false)
  | 59 => ("UnreadScriptModel", "deep", "[I", true)
  | 60 => ("UnreadScriptModel", "lanes", "[I", true)
  | 61 => ("UnreadScriptModel", "sizes", "[I", true)
  | _ => ("UnreadScriptModel", "cells", "[I", true)
def tyX2 : Nat → FieldType := fun k => match k with
  | 0 => .int
  | 1 => .array .int
  | 2 => .int
  | 3 => .array .int
  | 4 => .int
  | 5 => .array .int
  | 6 => .array .int
  | 7 => .int
  | 8 => .array .int
  | 9 => .array .int
  | 10 => .array .int
  | 11 => .array .boolean
  | 12 => .array .int
  | 13 => .array .int
  | 14 => .array .int
  | 15 => .int
  | 16 => .array .int
  | 17 => .array .int
  | 18 => .array .int
  | 19 => .array .int
  | 20 => .int
  | 21 => .array .int
  | 22 => .array .int
  | 23 => .array .int
  | 24 => .int
  | 25 => .array .int
  | 26 => .array .boolean
  | 27 => .int
  | 28 => .array .int
  | 29 => .array .int
  | 30 => .int
  | 31 => .array .int
  | 32 => .array .int
  | 33 => .int
  | 34 => .array .int
  | 35 => .array .int
  | 36 => .int
  | 37 => .array .int
  | 38 => .array .int
  | 39 => .array .boolean
  | 40 => .int
  | 41 => .int
  | 42 => .int
  | 43 => .array .int
  | 44 => .array .int
  | 45 => .int
  | 46 => .int
  | 47 => .int
  | 48 => .int
  | 49 => .int
  | 50 => .int
  | 51 => .int
  | 52 => .int
  | 53 => .array .int
  | 54 => .array .int
  | 55 => .array .int
  | 56 => .array .int
  | 57 => .array .int
  | 58 => .int
  | 59 => .array .int
  | 60 => .array .int
  | 61 => .array .int
  | _ => .array .int
abbrev wsX20 : List Cond := u_ws RX2 TX2 63
set_option maxRecDepth 100000 in
theorem nmX2 : ∀ a, a < 63 → ∀ b, b < 63 → a ≠ b → (TX2 a).2.1 ≠ (TX2 b).2.1 := by decide +kernel
set_option maxRecDepth 100000 in
theorem tyX2_ok : ∀ k, k < 63 → parseFieldDescriptor (TX2 k).2.2.1 = some (tyX2 k) := by decide +kernel
abbrev cX2_init : ByteArray := prog_11_method_1_code
def yX2_init : MethodName := ⟨RX2, "<init>", "()V"⟩
def dkwX2_init_15 : List UInt8 := [177]
abbrev dktX2_init_15 : List UInt8 := dkwX2_init_15 ++ []
def dkwX2_init_14 : List UInt8 := [181, 0, 132, 3, 60, 27, 7, 162, 0, 17, 42, 180, 0, 126, 27, 16, 252, 79, 132, 1, 1, 167, 255, 240]
abbrev dktX2_init_14 : List UInt8 := dkwX2_init_14 ++ dktX2_init_15
def dkwX2_init_13 : List UInt8 := [181, 0, 123, 42, 7, 188, 10, 181, 0, 126, 42, 7, 188, 10, 181, 0, 129, 42, 17, 0, 240, 188, 10]
abbrev dktX2_init_13 : List UInt8 := dkwX2_init_13 ++ dktX2_init_14
def dkwX2_init_12 : List UInt8 := [181, 0, 114, 42, 16, 20, 188, 10, 181, 0, 117, 42, 16, 20, 188, 10, 181, 0, 120, 42, 16, 20, 188, 10]
abbrev dktX2_init_12 : List UInt8 := dkwX2_init_12 ++ dktX2_init_13
def dkwX2_init_11 : List UInt8 := [181, 0, 105, 42, 16, 20, 188, 10, 181, 0, 108, 42, 16, 20, 188, 10, 181, 0, 111, 42, 16, 20, 188, 10]
abbrev dktX2_init_11 : List UInt8 := dkwX2_init_11 ++ dktX2_init_12
def dkwX2_init_10 : List UInt8 := [17, 112, 0, 188, 4, 181, 0, 99, 42, 16, 6, 188, 10, 181, 0, 102, 42, 17, 0, 160, 188, 10]
abbrev dktX2_init_10 : List UInt8 := dkwX2_init_10 ++ dktX2_init_11
def dkwX2_init_9 : List UInt8 := [188, 10, 181, 0, 90, 42, 16, 104, 188, 10, 181, 0, 93, 42, 16, 104, 188, 10, 181, 0, 96, 42]
abbrev dktX2_init_9 : List UInt8 := dkwX2_init_9 ++ dktX2_init_10
def dkwX2_init_8 : List UInt8 := [188, 10, 181, 0, 81, 42, 16, 12, 188, 10, 181, 0, 84, 42, 16, 6, 188, 10, 181, 0, 87, 42, 16, 24]
abbrev dktX2_init_8 : List UInt8 := dkwX2_init_8 ++ dktX2_init_9
def dkwX2_init_7 : List UInt8 := [16, 32, 188, 4, 181, 0, 72, 42, 7, 188, 10, 181, 0, 75, 42, 7, 188, 10, 181, 0, 78, 42, 16, 12]
abbrev dktX2_init_7 : List UInt8 := dkwX2_init_7 ++ dktX2_init_8
def dkwX2_init_6 : List UInt8 := [42, 16, 8, 188, 10, 181, 0, 63, 42, 7, 188, 10, 181, 0, 66, 42, 7, 188, 10, 181, 0, 69, 42]
abbrev dktX2_init_6 : List UInt8 := dkwX2_init_6 ++ dktX2_init_7
def dkwX2_init_5 : List UInt8 := [42, 16, 8, 188, 10, 181, 0, 54, 42, 16, 8, 188, 10, 181, 0, 57, 42, 16, 8, 188, 10, 181, 0, 60]
abbrev dktX2_init_5 : List UInt8 := dkwX2_init_5 ++ dktX2_init_6
def dkwX2_init_4 : List UInt8 := [17, 2, 64, 188, 10, 181, 0, 45, 42, 16, 8, 188, 10, 181, 0, 48, 42, 16, 64, 188, 10, 181, 0, 51]
abbrev dktX2_init_4 : List UInt8 := dkwX2_init_4 ++ dktX2_init_5
def dkwX2_init_3 : List UInt8 := [188, 4, 181, 0, 35, 42, 16, 24, 188, 10, 181, 0, 39, 42, 17, 2, 64, 188, 10, 181, 0, 42, 42]
abbrev dktX2_init_3 : List UInt8 := dkwX2_init_3 ++ dktX2_init_4
def dkwX2_init_2 : List UInt8 := [188, 10, 181, 0, 26, 42, 16, 104, 188, 10, 181, 0, 29, 42, 16, 104, 188, 10, 181, 0, 32, 42, 16, 104]
abbrev dktX2_init_2 : List UInt8 := dkwX2_init_2 ++ dktX2_init_3
def dkwX2_init_1 : List UInt8 := [181, 0, 17, 42, 16, 8, 188, 10, 181, 0, 20, 42, 17, 0, 192, 188, 10, 181, 0, 23, 42, 16, 104]
abbrev dktX2_init_1 : List UInt8 := dkwX2_init_1 ++ dktX2_init_2
def dkwX2_init_0 : List UInt8 := [42, 183, 0, 1, 42, 16, 24, 188, 10, 181, 0, 7, 42, 4, 181, 0, 13, 42, 16, 24, 188, 10]
abbrev dktX2_init_0 : List UInt8 := dkwX2_init_0 ++ dktX2_init_1
theorem dksX2_init_0 : cX2_init.data.toList.drop 0 = dktX2_init_0 := by decide +kernel
theorem dksX2_init_1 : cX2_init.data.toList.drop 22 = dktX2_init_1 := dk_seg dksX2_init_0 22 rfl rfl
theorem dksX2_init_2 : cX2_init.data.toList.drop 45 = dktX2_init_2 := dk_seg dksX2_init_1 23 rfl rfl
theorem dksX2_init_3 : cX2_init.data.toList.drop 69 = dktX2_init_3 := dk_seg dksX2_init_2 24 rfl rfl
theorem dksX2_init_4 : cX2_init.data.toList.drop 92 = dktX2_init_4 := dk_seg dksX2_init_3 23 rfl rfl
theorem dksX2_init_5 : cX2_init.data.toList.drop 116 = dktX2_init_5 := dk_seg dksX2_init_4 24 rfl rfl
theorem dksX2_init_6 : cX2_init.data.toList.drop 140 = dktX2_init_6 := dk_seg dksX2_init_5 24 rfl rfl
theorem dksX2_init_7 : cX2_init.data.toList.drop 163 = dktX2_init_7 := dk_seg dksX2_init_6 23 rfl rfl
theorem dksX2_init_8 : cX2_init.data.toList.drop 187 = dktX2_init_8 := dk_seg dksX2_init_7 24 rfl rfl
theorem dksX2_init_9 : cX2_init.data.toList.drop 211 = dktX2_init_9 := dk_seg dksX2_init_8 24 rfl rfl
theorem dksX2_init_10 : cX2_init.data.toList.drop 233 = dktX2_init_10 := dk_seg dksX2_init_9 22 rfl rfl
theorem dksX2_init_11 : cX2_init.data.toList.drop 255 = dktX2_init_11 := dk_seg dksX2_init_10 22 rfl rfl
theorem dksX2_init_12 : cX2_init.data.toList.drop 279 = dktX2_init_12 := dk_seg dksX2_init_11 24 rfl rfl
theorem dksX2_init_13 : cX2_init.data.toList.drop 303 = dktX2_init_13 := dk_seg dksX2_init_12 24 rfl rfl
theorem dksX2_init_14 : cX2_init.data.toList.drop 326 = dktX2_init_14 := dk_seg dksX2_init_13 23 rfl rfl
theorem dksX2_init_15 : cX2_init.data.toList.drop 350 = dktX2_init_15 := dk_seg dksX2_init_14 24 rfl rfl
theorem dX2_init_0 : decode cX2_init 0 = .ok (.aload_n 0, 1) := dk_42 (dk_at dksX2_init_0 0 rfl rfl)
theorem dX2_init_1 : decode cX2_init 1 = .ok (.invokespecial 1, 3) := dk_183 0 1 (dk_at dksX2_init_0 1 rfl rfl)
theorem dX2_init_4 : decode cX2_init 4 = .ok (.aload_n 0, 1) := dk_42 (dk_at dksX2_init_0 4 rfl rfl)
theorem dX2_init_5 : decode cX2_init 5 = .ok (.bipush 24, 2) := dk_16 24 (dk_at dksX2_init_0 5 rfl rfl)
theorem dX2_init_7 : decode cX2_init 7 = .ok (.newarray .int, 2) := dk_188_10 (dk_at dksX2_init_0 7 rfl rfl)
theorem dX2_init_9 : decode cX2_init 9 = .ok (.putfield 7, 3) := dk_181 0 7 (dk_at dksX2_init_0 9 rfl rfl)
theorem dX2_init_12 : decode cX2_init 12 = .ok (.aload_n 0, 1) := dk_42 (dk_at dksX2_init_0 12 rfl rfl)
theorem dX2_init_13 : decode cX2_init 13 = .ok (.iconst 1, 1) := dk_4 (dk_at dksX2_init_0 13 rfl rfl)
theorem dX2_init_14 : decode cX2_init 14 = .ok (.putfield 13, 3) := dk_181 0 13 (dk_at dksX2_init_0 14 rfl rfl)
theorem dX2_init_17 : decode cX2_init 17 = .ok (.aload_n 0, 1) := dk_42 (dk_at dksX2_init_0 17 rfl rfl)
theorem dX2_init_18 : decode cX2_init 18 = .ok (.bipush 24, 2) := dk_16 24 (dk_at dksX2_init_0 18 rfl rfl)
theorem dX2_init_20 : decode cX2_init 20 = .ok (.newarray .int, 2) := dk_188_10 (dk_at dksX2_init_0 20 rfl rfl)
theorem dX2_init_22 : decode cX2_init 22 = .ok (.putfield 17, 3) := dk_181 0 17 (dk_at dksX2_init_1 0 rfl rfl)
theorem dX2_init_25 : decode cX2_init 25 = .ok (.aload_n 0, 1) := dk_42 (dk_at dksX2_init_1 3 rfl rfl)
theorem dX2_init_26 : decode cX2_init 26 = .ok (.bipush 8, 2) := dk_16 8 (dk_at dksX2_init_1 4 rfl rfl)
theorem dX2_init_28 : decode cX2_init 28 = .ok (.newarray .int, 2) := dk_188_10 (dk_at dksX2_init_1 6 rfl rfl)
theorem dX2_init_30 : decode cX2_init 30 = .ok (.putfield 20, 3) := dk_181 0 20 (dk_at dksX2_init_1 8 rfl rfl)
theorem dX2_init_33 : decode cX2_init 33 = .ok (.aload_n 0, 1) := dk_42 (dk_at dksX2_init_1 11 rfl rfl)
theorem dX2_init_34 : decode cX2_init 34 = .ok (.sipush 192, 3) := dk_17 0 192 (dk_at dksX2_init_1 12 rfl rfl)
theorem dX2_init_37 : decode cX2_init 37 = .ok (.newarray .int, 2) := dk_188_10 (dk_at dksX2_init_1 15 rfl rfl)
theorem dX2_init_39 : decode cX2_init 39 = .ok (.putfield 23, 3) := dk_181 0 23 (dk_at dksX2_init_1 17 rfl rfl)
theorem dX2_init_42 : decode cX2_init 42 = .ok (.aload_n 0, 1) := dk_42 (dk_at dksX2_init_1 20 rfl rfl)
theorem dX2_init_43 : decode cX2_init 43 = .ok (.bipush 104, 2) := dk_16 104 (dk_at dksX2_init_1 21 rfl rfl)
theorem dX2_init_45 : decode cX2_init 45 = .ok (.newarray .int, 2) := dk_188_10 (dk_at dksX2_init_2 0 rfl rfl)
theorem dX2_init_47 : decode cX2_init 47 = .ok (.putfield 26, 3) := dk_181 0 26 (dk_at dksX2_init_2 2 rfl rfl)
theorem dX2_init_50 : decode cX2_init 50 = .ok (.aload_n 0, 1) := dk_42 (dk_at dksX2_init_2 5 rfl rfl)
theorem dX2_init_51 : decode cX2_init 51 = .ok (.bipush 104, 2) := dk_16 104 (dk_at dksX2_init_2 6 rfl rfl)
theorem dX2_init_53 : decode cX2_init 53 = .ok (.newarray .int, 2) := dk_188_10 (dk_at dksX2_init_2 8 rfl rfl)
theorem dX2_init_55 : decode cX2_init 55 = .ok (.putfield 29, 3) := dk_181 0 29 (dk_at dksX2_init_2 10 rfl rfl)
theorem dX2_init_58 : decode cX2_init 58 = .ok (.aload_n 0, 1) := dk_42 (dk_at dksX2_init_2 13 rfl rfl)
theorem dX2_init_59 : decode cX2_init 59 = .ok (.bipush 104, 2) := dk_16 104 (dk_at dksX2_init_2 14 rfl rfl)
theorem dX2_init_61 : decode cX2_init 61 = .ok (.newarray .int, 2) := dk_188_10 (dk_at dksX2_init_2 16 rfl rfl)
theorem dX2_init_63 : decode cX2_init 63 = .ok (.putfield 32, 3) := dk_181 0 32 (dk_at dksX2_init_2 18 rfl rfl)
theorem dX2_init_66 : decode cX2_init 66 = .ok (.aload_n 0, 1) := dk_42 (dk_at dksX2_init_2 21 rfl rfl)
theorem dX2_init_67 : decode cX2_init 67 = .ok (.bipush 104, 2) := dk_16 104 (dk_at dksX2_init_2 22 rfl rfl)
theorem dX2_init_69 : decode cX2_init 69 = .ok (.newarray .boolean, 2) := dk_188_4 (dk_at dksX2_init_3 0 rfl rfl)
theorem dX2_init_71 : decode cX2_init 71 = .ok (.putfield 35, 3) := dk_181 0 35 (dk_at dksX2_init_3 2 rfl rfl)
theorem dX2_init_74 : decode cX2_init 74 = .ok (.aload_n 0, 1) := dk_42 (dk_at dksX2_init_3 5 rfl rfl)
theorem dX2_init_75 : decode cX2_init 75 = .ok (.bipush 24, 2) := dk_16 24 (dk_at dksX2_init_3 6 rfl rfl)
theorem dX2_init_77 : decode cX2_init 77 = .ok (.newarray .int, 2) := dk_188_10 (dk_at dksX2_init_3 8 rfl rfl)
theorem dX2_init_79 : decode cX2_init 79 = .ok (.putfield 39, 3) := dk_181 0 39 (dk_at dksX2_init_3 10 rfl rfl)
theorem dX2_init_82 : decode cX2_init 82 = .ok (.aload_n 0, 1) := dk_42 (dk_at dksX2_init_3 13 rfl rfl)
theorem dX2_init_83 : decode cX2_init 83 = .ok (.sipush 576, 3) := dk_17 2 64 (dk_at dksX2_init_3 14 rfl rfl)
theorem dX2_init_86 : decode cX2_init 86 = .ok (.newarray .int, 2) := dk_188_10 (dk_at dksX2_init_3 17 rfl rfl)
theorem dX2_init_88 : decode cX2_init 88 = .ok (.putfield 42, 3) := dk_181 0 42 (dk_at dksX2_init_3 19 rfl rfl)
theorem dX2_init_91 : decode cX2_init 91 = .ok (.aload_n 0, 1) := dk_42 (dk_at dksX2_init_3 22 rfl rfl)
theorem dX2_init_92 : decode cX2_init 92 = .ok (.sipush 576, 3) := dk_17 2 64 (dk_at dksX2_init_4 0 rfl rfl)
theorem dX2_init_95 : decode cX2_init 95 = .ok (.newarray .int, 2) := dk_188_10 (dk_at dksX2_init_4 3 rfl rfl)
theorem dX2_init_97 : decode cX2_init 97 = .ok (.putfield 45, 3) := dk_181 0 45 (dk_at dksX2_init_4 5 rfl rfl)
theorem dX2_init_100 : decode cX2_init 100 = .ok (.aload_n 0, 1) := dk_42 (dk_at dksX2_init_4 8 rfl rfl)
theorem dX2_init_101 : decode cX2_init 101 = .ok (.bipush 8, 2) := dk_16 8 (dk_at dksX2_init_4 9 rfl rfl)
theorem dX2_init_103 : decode cX2_init 103 = .ok (.newarray .int, 2) := dk_188_10 (dk_at dksX2_init_4 11 rfl rfl)
theorem dX2_init_105 : decode cX2_init 105 = .ok (.putfield 48, 3) := dk_181 0 48 (dk_at dksX2_init_4 13 rfl rfl)
theorem dX2_init_108 : decode cX2_init 108 = .ok (.aload_n 0, 1) := dk_42 (dk_at dksX2_init_4 16 rfl rfl)
theorem dX2_init_109 : decode cX2_init 109 = .ok (.bipush 64, 2) := dk_16 64 (dk_at dksX2_init_4 17 rfl rfl)
theorem dX2_init_111 : decode cX2_init 111 = .ok (.newarray .int, 2) := dk_188_10 (dk_at dksX2_init_4 19 rfl rfl)
theorem dX2_init_113 : decode cX2_init 113 = .ok (.putfield 51, 3) := dk_181 0 51 (dk_at dksX2_init_4 21 rfl rfl)
theorem dX2_init_116 : decode cX2_init 116 = .ok (.aload_n 0, 1) := dk_42 (dk_at dksX2_init_5 0 rfl rfl)
theorem dX2_init_117 : decode cX2_init 117 = .ok (.bipush 8, 2) := dk_16 8 (dk_at dksX2_init_5 1 rfl rfl)
theorem dX2_init_119 : decode cX2_init 119 = .ok (.newarray .int, 2) := dk_188_10 (dk_at dksX2_init_5 3 rfl rfl)
theorem dX2_init_121 : decode cX2_init 121 = .ok (.putfield 54, 3) := dk_181 0 54 (dk_at dksX2_init_5 5 rfl rfl)
theorem dX2_init_124 : decode cX2_init 124 = .ok (.aload_n 0, 1) := dk_42 (dk_at dksX2_init_5 8 rfl rfl)
theorem dX2_init_125 : decode cX2_init 125 = .ok (.bipush 8, 2) := dk_16 8 (dk_at dksX2_init_5 9 rfl rfl)
theorem dX2_init_127 : decode cX2_init 127 = .ok (.newarray .int, 2) := dk_188_10 (dk_at dksX2_init_5 11 rfl rfl)
theorem dX2_init_129 : decode cX2_init 129 = .ok (.putfield 57, 3) := dk_181 0 57 (dk_at dksX2_init_5 13 rfl rfl)
theorem dX2_init_132 : decode cX2_init 132 = .ok (.aload_n 0, 1) := dk_42 (dk_at dksX2_init_5 16 rfl rfl)
theorem dX2_init_133 : decode cX2_init 133 = .ok (.bipush 8, 2) := dk_16 8 (dk_at dksX2_init_5 17 rfl rfl)
theorem dX2_init_135 : decode cX2_init 135 = .ok (.newarray .int, 2) := dk_188_10 (dk_at dksX2_init_5 19 rfl rfl)
theorem dX2_init_137 : decode cX2_init 137 = .ok (.putfield 60, 3) := dk_181 0 60 (dk_at dksX2_init_5 21 rfl rfl)
theorem dX2_init_140 : decode cX2_init 140 = .ok (.aload_n 0, 1) := dk_42 (dk_at dksX2_init_6 0 rfl rfl)
theorem dX2_init_141 : decode cX2_init 141 = .ok (.bipush 8, 2) := dk_16 8 (dk_at dksX2_init_6 1 rfl rfl)
theorem dX2_init_143 : decode cX2_init 143 = .ok (.newarray .int, 2) := dk_188_10 (dk_at dksX2_init_6 3 rfl rfl)
theorem dX2_init_145 : decode cX2_init 145 = .ok (.putfield 63, 3) := dk_181 0 63 (dk_at dksX2_init_6 5 rfl rfl)
theorem dX2_init_148 : decode cX2_init 148 = .ok (.aload_n 0, 1) := dk_42 (dk_at dksX2_init_6 8 rfl rfl)
theorem dX2_init_149 : decode cX2_init 149 = .ok (.iconst 4, 1) := dk_7 (dk_at dksX2_init_6 9 rfl rfl)
theorem dX2_init_150 : decode cX2_init 150 = .ok (.newarray .int, 2) := dk_188_10 (dk_at dksX2_init_6 10 rfl rfl)
theorem dX2_init_152 : decode cX2_init 152 = .ok (.putfield 66, 3) := dk_181 0 66 (dk_at dksX2_init_6 12 rfl rfl)
theorem dX2_init_155 : decode cX2_init 155 = .ok (.aload_n 0, 1) := dk_42 (dk_at dksX2_init_6 15 rfl rfl)
theorem dX2_init_156 : decode cX2_init 156 = .ok (.iconst 4, 1) := dk_7 (dk_at dksX2_init_6 16 rfl rfl)
theorem dX2_init_157 : decode cX2_init 157 = .ok (.newarray .int, 2) := dk_188_10 (dk_at dksX2_init_6 17 rfl rfl)
theorem dX2_init_159 : decode cX2_init 159 = .ok (.putfield 69, 3) := dk_181 0 69 (dk_at dksX2_init_6 19 rfl rfl)
theorem dX2_init_162 : decode cX2_init 162 = .ok (.aload_n 0, 1) := dk_42 (dk_at dksX2_init_6 22 rfl rfl)
theorem dX2_init_163 : decode cX2_init 163 = .ok (.bipush 32, 2) := dk_16 32 (dk_at dksX2_init_7 0 rfl rfl)
theorem dX2_init_165 : decode cX2_init 165 = .ok (.newarray .boolean, 2) := dk_188_4 (dk_at dksX2_init_7 2 rfl rfl)
theorem dX2_init_167 : decode cX2_init 167 = .ok (.putfield 72, 3) := dk_181 0 72 (dk_at dksX2_init_7 4 rfl rfl)
theorem dX2_init_170 : decode cX2_init 170 = .ok (.aload_n 0, 1) := dk_42 (dk_at dksX2_init_7 7 rfl rfl)
theorem dX2_init_171 : decode cX2_init 171 = .ok (.iconst 4, 1) := dk_7 (dk_at dksX2_init_7 8 rfl rfl)
theorem dX2_init_172 : decode cX2_init 172 = .ok (.newarray .int, 2) := dk_188_10 (dk_at dksX2_init_7 9 rfl rfl)
theorem dX2_init_174 : decode cX2_init 174 = .ok (.putfield 75, 3) := dk_181 0 75 (dk_at dksX2_init_7 11 rfl rfl)
theorem dX2_init_177 : decode cX2_init 177 = .ok (.aload_n 0, 1) := dk_42 (dk_at dksX2_init_7 14 rfl rfl)
theorem dX2_init_178 : decode cX2_init 178 = .ok (.iconst 4, 1) := dk_7 (dk_at dksX2_init_7 15 rfl rfl)
theorem dX2_init_179 : decode cX2_init 179 = .ok (.newarray .int, 2) := dk_188_10 (dk_at dksX2_init_7 16 rfl rfl)
theorem dX2_init_181 : decode cX2_init 181 = .ok (.putfield 78, 3) := dk_181 0 78 (dk_at dksX2_init_7 18 rfl rfl)
theorem dX2_init_184 : decode cX2_init 184 = .ok (.aload_n 0, 1) := dk_42 (dk_at dksX2_init_7 21 rfl rfl)
theorem dX2_init_185 : decode cX2_init 185 = .ok (.bipush 12, 2) := dk_16 12 (dk_at dksX2_init_7 22 rfl rfl)
theorem dX2_init_187 : decode cX2_init 187 = .ok (.newarray .int, 2) := dk_188_10 (dk_at dksX2_init_8 0 rfl rfl)
theorem dX2_init_189 : decode cX2_init 189 = .ok (.putfield 81, 3) := dk_181 0 81 (dk_at dksX2_init_8 2 rfl rfl)
theorem dX2_init_192 : decode cX2_init 192 = .ok (.aload_n 0, 1) := dk_42 (dk_at dksX2_init_8 5 rfl rfl)
theorem dX2_init_193 : decode cX2_init 193 = .ok (.bipush 12, 2) := dk_16 12 (dk_at dksX2_init_8 6 rfl rfl)
theorem dX2_init_195 : decode cX2_init 195 = .ok (.newarray .int, 2) := dk_188_10 (dk_at dksX2_init_8 8 rfl rfl)
theorem dX2_init_197 : decode cX2_init 197 = .ok (.putfield 84, 3) := dk_181 0 84 (dk_at dksX2_init_8 10 rfl rfl)
theorem dX2_init_200 : decode cX2_init 200 = .ok (.aload_n 0, 1) := dk_42 (dk_at dksX2_init_8 13 rfl rfl)
theorem dX2_init_201 : decode cX2_init 201 = .ok (.bipush 6, 2) := dk_16 6 (dk_at dksX2_init_8 14 rfl rfl)
theorem dX2_init_203 : decode cX2_init 203 = .ok (.newarray .int, 2) := dk_188_10 (dk_at dksX2_init_8 16 rfl rfl)
theorem dX2_init_205 : decode cX2_init 205 = .ok (.putfield 87, 3) := dk_181 0 87 (dk_at dksX2_init_8 18 rfl rfl)
theorem dX2_init_208 : decode cX2_init 208 = .ok (.aload_n 0, 1) := dk_42 (dk_at dksX2_init_8 21 rfl rfl)
theorem dX2_init_209 : decode cX2_init 209 = .ok (.bipush 24, 2) := dk_16 24 (dk_at dksX2_init_8 22 rfl rfl)
theorem dX2_init_211 : decode cX2_init 211 = .ok (.newarray .int, 2) := dk_188_10 (dk_at dksX2_init_9 0 rfl rfl)
theorem dX2_init_213 : decode cX2_init 213 = .ok (.putfield 90, 3) := dk_181 0 90 (dk_at dksX2_init_9 2 rfl rfl)
theorem dX2_init_216 : decode cX2_init 216 = .ok (.aload_n 0, 1) := dk_42 (dk_at dksX2_init_9 5 rfl rfl)
theorem dX2_init_217 : decode cX2_init 217 = .ok (.bipush 104, 2) := dk_16 104 (dk_at dksX2_init_9 6 rfl rfl)
theorem dX2_init_219 : decode cX2_init 219 = .ok (.newarray .int, 2) := dk_188_10 (dk_at dksX2_init_9 8 rfl rfl)
theorem dX2_init_221 : decode cX2_init 221 = .ok (.putfield 93, 3) := dk_181 0 93 (dk_at dksX2_init_9 10 rfl rfl)
theorem dX2_init_224 : decode cX2_init 224 = .ok (.aload_n 0, 1) := dk_42 (dk_at dksX2_init_9 13 rfl rfl)
theorem dX2_init_225 : decode cX2_init 225 = .ok (.bipush 104, 2) := dk_16 104 (dk_at dksX2_init_9 14 rfl rfl)
theorem dX2_init_227 : decode cX2_init 227 = .ok (.newarray .int, 2) := dk_188_10 (dk_at dksX2_init_9 16 rfl rfl)
theorem dX2_init_229 : decode cX2_init 229 = .ok (.putfield 96, 3) := dk_181 0 96 (dk_at dksX2_init_9 18 rfl rfl)
theorem dX2_init_232 : decode cX2_init 232 = .ok (.aload_n 0, 1) := dk_42 (dk_at dksX2_init_9 21 rfl rfl)
theorem dX2_init_233 : decode cX2_init 233 = .ok (.sipush 28672, 3) := dk_17 112 0 (dk_at dksX2_init_10 0 rfl rfl)
theorem dX2_init_236 : decode cX2_init 236 = .ok (.newarray .boolean, 2) := dk_188_4 (dk_at dksX2_init_10 3 rfl rfl)
theorem dX2_init_238 : decode cX2_init 238 = .ok (.putfield 99, 3) := dk_181 0 99 (dk_at dksX2_init_10 5 rfl rfl)
theorem dX2_init_241 : decode cX2_init 241 = .ok (.aload_n 0, 1) := dk_42 (dk_at dksX2_init_10 8 rfl rfl)
theorem dX2_init_242 : decode cX2_init 242 = .ok (.bipush 6, 2) := dk_16 6 (dk_at dksX2_init_10 9 rfl rfl)
theorem dX2_init_244 : decode cX2_init 244 = .ok (.newarray .int, 2) := dk_188_10 (dk_at dksX2_init_10 11 rfl rfl)
theorem dX2_init_246 : decode cX2_init 246 = .ok (.putfield 102, 3) := dk_181 0 102 (dk_at dksX2_init_10 13 rfl rfl)
theorem dX2_init_249 : decode cX2_init 249 = .ok (.aload_n 0, 1) := dk_42 (dk_at dksX2_init_10 16 rfl rfl)
theorem dX2_init_250 : decode cX2_init 250 = .ok (.sipush 160, 3) := dk_17 0 160 (dk_at dksX2_init_10 17 rfl rfl)
theorem dX2_init_253 : decode cX2_init 253 = .ok (.newarray .int, 2) := dk_188_10 (dk_at dksX2_init_10 20 rfl rfl)
theorem dX2_init_255 : decode cX2_init 255 = .ok (.putfield 105, 3) := dk_181 0 105 (dk_at dksX2_init_11 0 rfl rfl)
theorem dX2_init_258 : decode cX2_init 258 = .ok (.aload_n 0, 1) := dk_42 (dk_at dksX2_init_11 3 rfl rfl)
theorem dX2_init_259 : decode cX2_init 259 = .ok (.bipush 20, 2) := dk_16 20 (dk_at dksX2_init_11 4 rfl rfl)
theorem dX2_init_261 : decode cX2_init 261 = .ok (.newarray .int, 2) := dk_188_10 (dk_at dksX2_init_11 6 rfl rfl)
theorem dX2_init_263 : decode cX2_init 263 = .ok (.putfield 108, 3) := dk_181 0 108 (dk_at dksX2_init_11 8 rfl rfl)
theorem dX2_init_266 : decode cX2_init 266 = .ok (.aload_n 0, 1) := dk_42 (dk_at dksX2_init_11 11 rfl rfl)
theorem dX2_init_267 : decode cX2_init 267 = .ok (.bipush 20, 2) := dk_16 20 (dk_at dksX2_init_11 12 rfl rfl)
theorem dX2_init_269 : decode cX2_init 269 = .ok (.newarray .int, 2) := dk_188_10 (dk_at dksX2_init_11 14 rfl rfl)
theorem dX2_init_271 : decode cX2_init 271 = .ok (.putfield 111, 3) := dk_181 0 111 (dk_at dksX2_init_11 16 rfl rfl)
theorem dX2_init_274 : decode cX2_init 274 = .ok (.aload_n 0, 1) := dk_42 (dk_at dksX2_init_11 19 rfl rfl)
theorem dX2_init_275 : decode cX2_init 275 = .ok (.bipush 20, 2) := dk_16 20 (dk_at dksX2_init_11 20 rfl rfl)
theorem dX2_init_277 : decode cX2_init 277 = .ok (.newarray .int, 2) := dk_188_10 (dk_at dksX2_init_11 22 rfl rfl)
theorem dX2_init_279 : decode cX2_init 279 = .ok (.putfield 114, 3) := dk_181 0 114 (dk_at dksX2_init_12 0 rfl rfl)
theorem dX2_init_282 : decode cX2_init 282 = .ok (.aload_n 0, 1) := dk_42 (dk_at dksX2_init_12 3 rfl rfl)
theorem dX2_init_283 : decode cX2_init 283 = .ok (.bipush 20, 2) := dk_16 20 (dk_at dksX2_init_12 4 rfl rfl)
theorem dX2_init_285 : decode cX2_init 285 = .ok (.newarray .int, 2) := dk_188_10 (dk_at dksX2_init_12 6 rfl rfl)
theorem dX2_init_287 : decode cX2_init 287 = .ok (.putfield 117, 3) := dk_181 0 117 (dk_at dksX2_init_12 8 rfl rfl)
theorem dX2_init_290 : decode cX2_init 290 = .ok (.aload_n 0, 1) := dk_42 (dk_at dksX2_init_12 11 rfl rfl)
theorem dX2_init_291 : decode cX2_init 291 = .ok (.bipush 20, 2) := dk_16 20 (dk_at dksX2_init_12 12 rfl rfl)
theorem dX2_init_293 : decode cX2_init 293 = .ok (.newarray .int, 2) := dk_188_10 (dk_at dksX2_init_12 14 rfl rfl)
theorem dX2_init_295 : decode cX2_init 295 = .ok (.putfield 120, 3) := dk_181 0 120 (dk_at dksX2_init_12 16 rfl rfl)
theorem dX2_init_298 : decode cX2_init 298 = .ok (.aload_n 0, 1) := dk_42 (dk_at dksX2_init_12 19 rfl rfl)
theorem dX2_init_299 : decode cX2_init 299 = .ok (.bipush 20, 2) := dk_16 20 (dk_at dksX2_init_12 20 rfl rfl)
theorem dX2_init_301 : decode cX2_init 301 = .ok (.newarray .int, 2) := dk_188_10 (dk_at dksX2_init_12 22 rfl rfl)
theorem dX2_init_303 : decode cX2_init 303 = .ok (.putfield 123, 3) := dk_181 0 123 (dk_at dksX2_init_13 0 rfl rfl)
theorem dX2_init_306 : decode cX2_init 306 = .ok (.aload_n 0, 1) := dk_42 (dk_at dksX2_init_13 3 rfl rfl)
theorem dX2_init_307 : decode cX2_init 307 = .ok (.iconst 4, 1) := dk_7 (dk_at dksX2_init_13 4 rfl rfl)
theorem dX2_init_308 : decode cX2_init 308 = .ok (.newarray .int, 2) := dk_188_10 (dk_at dksX2_init_13 5 rfl rfl)
theorem dX2_init_310 : decode cX2_init 310 = .ok (.putfield 126, 3) := dk_181 0 126 (dk_at dksX2_init_13 7 rfl rfl)
theorem dX2_init_313 : decode cX2_init 313 = .ok (.aload_n 0, 1) := dk_42 (dk_at dksX2_init_13 10 rfl rfl)
theorem dX2_init_314 : decode cX2_init 314 = .ok (.iconst 4, 1) := dk_7 (dk_at dksX2_init_13 11 rfl rfl)
theorem dX2_init_315 : decode cX2_init 315 = .ok (.newarray .int, 2) := dk_188_10 (dk_at dksX2_init_13 12 rfl rfl)
theorem dX2_init_317 : decode cX2_init 317 = .ok (.putfield 129, 3) := dk_181 0 129 (dk_at dksX2_init_13 14 rfl rfl)
theorem dX2_init_320 : decode cX2_init 320 = .ok (.aload_n 0, 1) := dk_42 (dk_at dksX2_init_13 17 rfl rfl)
theorem dX2_init_321 : decode cX2_init 321 = .ok (.sipush 240, 3) := dk_17 0 240 (dk_at dksX2_init_13 18 rfl rfl)
theorem dX2_init_324 : decode cX2_init 324 = .ok (.newarray .int, 2) := dk_188_10 (dk_at dksX2_init_13 21 rfl rfl)
theorem dX2_init_326 : decode cX2_init 326 = .ok (.putfield 132, 3) := dk_181 0 132 (dk_at dksX2_init_14 0 rfl rfl)
theorem dX2_init_329 : decode cX2_init 329 = .ok (.iconst 0, 1) := dk_3 (dk_at dksX2_init_14 3 rfl rfl)
theorem dX2_init_330 : decode cX2_init 330 = .ok (.istore_n 1, 1) := dk_60 (dk_at dksX2_init_14 4 rfl rfl)
theorem dX2_init_331 : decode cX2_init 331 = .ok (.iload_n 1, 1) := dk_27 (dk_at dksX2_init_14 5 rfl rfl)
theorem dX2_init_332 : decode cX2_init 332 = .ok (.iconst 4, 1) := dk_7 (dk_at dksX2_init_14 6 rfl rfl)
theorem dX2_init_333 : decode cX2_init 333 = .ok (.if_icmp .ge 17, 3) := dk_162 0 17 (dk_at dksX2_init_14 7 rfl rfl)
theorem dX2_init_336 : decode cX2_init 336 = .ok (.aload_n 0, 1) := dk_42 (dk_at dksX2_init_14 10 rfl rfl)
theorem dX2_init_337 : decode cX2_init 337 = .ok (.getfield 126, 3) := dk_180 0 126 (dk_at dksX2_init_14 11 rfl rfl)
theorem dX2_init_340 : decode cX2_init 340 = .ok (.iload_n 1, 1) := dk_27 (dk_at dksX2_init_14 14 rfl rfl)
theorem dX2_init_341 : decode cX2_init 341 = .ok (.bipush (-4), 2) := dk_16 252 (dk_at dksX2_init_14 15 rfl rfl)
theorem dX2_init_343 : decode cX2_init 343 = .ok (.iastore, 1) := dk_79 (dk_at dksX2_init_14 17 rfl rfl)
theorem dX2_init_344 : decode cX2_init 344 = .ok (.iinc 1 1, 3) := dk_132 1 1 (dk_at dksX2_init_14 18 rfl rfl)
theorem dX2_init_347 : decode cX2_init 347 = .ok (.goto (-16), 3) := dk_167 255 240 (dk_at dksX2_init_14 21 rfl rfl)
theorem dX2_init_350 : decode cX2_init 350 = .ok (.return_, 1) := dk_177 (dk_at dksX2_init_15 0 rfl rfl)
abbrev cX2_form : ByteArray := prog_11_method_6_code
def yX2_form : MethodName := ⟨RX2, "form", "(I)I"⟩
def dkwX2_form_2 : List UInt8 := [180, 0, 135, 4, 100, 172]
abbrev dktX2_form_2 : List UInt8 := dkwX2_form_2 ++ []
def dkwX2_form_1 : List UInt8 := [16, 253, 172, 42, 180, 0, 7, 42, 180, 0, 135, 27, 79, 42, 89, 180, 0, 135, 4, 96, 181, 0, 135, 42]
abbrev dktX2_form_1 : List UInt8 := dkwX2_form_1 ++ dktX2_form_2
def dkwX2_form_0 : List UInt8 := [27, 133, 9, 20, 0, 142, 184, 0, 138, 154, 0, 5, 2, 172, 42, 180, 0, 135, 16, 24, 160, 0, 6]
abbrev dktX2_form_0 : List UInt8 := dkwX2_form_0 ++ dktX2_form_1
theorem dksX2_form_0 : cX2_form.data.toList.drop 0 = dktX2_form_0 := by decide +kernel
theorem dksX2_form_1 : cX2_form.data.toList.drop 23 = dktX2_form_1 := dk_seg dksX2_form_0 23 rfl rfl
theorem dksX2_form_2 : cX2_form.data.toList.drop 47 = dktX2_form_2 := dk_seg dksX2_form_1 24 rfl rfl
theorem dX2_form_0 : decode cX2_form 0 = .ok (.iload_n 1, 1) := dk_27 (dk_at dksX2_form_0 0 rfl rfl)
theorem dX2_form_1 : decode cX2_form 1 = .ok (.i2l, 1) := dk_133 (dk_at dksX2_form_0 1 rfl rfl)
theorem dX2_form_2 : decode cX2_form 2 = .ok (.lconst 0, 1) := dk_9 (dk_at dksX2_form_0 2 rfl rfl)
theorem dX2_form_3 : decode cX2_form 3 = .ok (.ldc2_w 142, 3) := dk_20 0 142 (dk_at dksX2_form_0 3 rfl rfl)
theorem dX2_form_6 : decode cX2_form 6 = .ok (.invokestatic 138, 3) := dk_184 0 138 (dk_at dksX2_form_0 6 rfl rfl)
theorem dX2_form_9 : decode cX2_form 9 = .ok (.ifCond .ne 5, 3) := dk_154 0 5 (dk_at dksX2_form_0 9 rfl rfl)
theorem dX2_form_12 : decode cX2_form 12 = .ok (.iconst (-1), 1) := dk_2 (dk_at dksX2_form_0 12 rfl rfl)
theorem dX2_form_13 : decode cX2_form 13 = .ok (.ireturn, 1) := dk_172 (dk_at dksX2_form_0 13 rfl rfl)
theorem dX2_form_14 : decode cX2_form 14 = .ok (.aload_n 0, 1) := dk_42 (dk_at dksX2_form_0 14 rfl rfl)
theorem dX2_form_15 : decode cX2_form 15 = .ok (.getfield 135, 3) := dk_180 0 135 (dk_at dksX2_form_0 15 rfl rfl)
theorem dX2_form_18 : decode cX2_form 18 = .ok (.bipush 24, 2) := dk_16 24 (dk_at dksX2_form_0 18 rfl rfl)
theorem dX2_form_20 : decode cX2_form 20 = .ok (.if_icmp .ne 6, 3) := dk_160 0 6 (dk_at dksX2_form_0 20 rfl rfl)
theorem dX2_form_23 : decode cX2_form 23 = .ok (.bipush (-3), 2) := dk_16 253 (dk_at dksX2_form_1 0 rfl rfl)
theorem dX2_form_25 : decode cX2_form 25 = .ok (.ireturn, 1) := dk_172 (dk_at dksX2_form_1 2 rfl rfl)
theorem dX2_form_26 : decode cX2_form 26 = .ok (.aload_n 0, 1) := dk_42 (dk_at dksX2_form_1 3 rfl rfl)
theorem dX2_form_27 : decode cX2_form 27 = .ok (.getfield 7, 3) := dk_180 0 7 (dk_at dksX2_form_1 4 rfl rfl)
theorem dX2_form_30 : decode cX2_form 30 = .ok (.aload_n 0, 1) := dk_42 (dk_at dksX2_form_1 7 rfl rfl)
theorem dX2_form_31 : decode cX2_form 31 = .ok (.getfield 135, 3) := dk_180 0 135 (dk_at dksX2_form_1 8 rfl rfl)
theorem dX2_form_34 : decode cX2_form 34 = .ok (.iload_n 1, 1) := dk_27 (dk_at dksX2_form_1 11 rfl rfl)
theorem dX2_form_35 : decode cX2_form 35 = .ok (.iastore, 1) := dk_79 (dk_at dksX2_form_1 12 rfl rfl)
theorem dX2_form_36 : decode cX2_form 36 = .ok (.aload_n 0, 1) := dk_42 (dk_at dksX2_form_1 13 rfl rfl)
theorem dX2_form_37 : decode cX2_form 37 = .ok (.dup, 1) := dk_89 (dk_at dksX2_form_1 14 rfl rfl)
theorem dX2_form_38 : decode cX2_form 38 = .ok (.getfield 135, 3) := dk_180 0 135 (dk_at dksX2_form_1 15 rfl rfl)
theorem dX2_form_41 : decode cX2_form 41 = .ok (.iconst 1, 1) := dk_4 (dk_at dksX2_form_1 18 rfl rfl)
theorem dX2_form_42 : decode cX2_form 42 = .ok (.iadd, 1) := dk_96 (dk_at dksX2_form_1 19 rfl rfl)
theorem dX2_form_43 : decode cX2_form 43 = .ok (.putfield 135, 3) := dk_181 0 135 (dk_at dksX2_form_1 20 rfl rfl)
theorem dX2_form_46 : decode cX2_form 46 = .ok (.aload_n 0, 1) := dk_42 (dk_at dksX2_form_1 23 rfl rfl)
theorem dX2_form_47 : decode cX2_form 47 = .ok (.getfield 135, 3) := dk_180 0 135 (dk_at dksX2_form_2 0 rfl rfl)
theorem dX2_form_50 : decode cX2_form 50 = .ok (.iconst 1, 1) := dk_4 (dk_at dksX2_form_2 3 rfl rfl)
theorem dX2_form_51 : decode cX2_form 51 = .ok (.isub, 1) := dk_100 (dk_at dksX2_form_2 4 rfl rfl)
theorem dX2_form_52 : decode cX2_form 52 = .ok (.ireturn, 1) := dk_172 (dk_at dksX2_form_2 5 rfl rfl)
abbrev cX2_in : ByteArray := prog_11_method_3_code
def yX2_in : MethodName := ⟨RX2, "in", "(JJJ)Z"⟩
def dkwX2_in_0 : List UInt8 := [30, 32, 148, 155, 0, 14, 30, 22, 4, 148, 157, 0, 7, 4, 167, 0, 4, 3, 172]
abbrev dktX2_in_0 : List UInt8 := dkwX2_in_0 ++ []
theorem dksX2_in_0 : cX2_in.data.toList.drop 0 = dktX2_in_0 := by decide +kernel
theorem dX2_in_0 : decode cX2_in 0 = .ok (.lload_n 0, 1) := dk_30 (dk_at dksX2_in_0 0 rfl rfl)
theorem dX2_in_1 : decode cX2_in 1 = .ok (.lload_n 2, 1) := dk_32 (dk_at dksX2_in_0 1 rfl rfl)
theorem dX2_in_2 : decode cX2_in 2 = .ok (.lcmp, 1) := dk_148 (dk_at dksX2_in_0 2 rfl rfl)
theorem dX2_in_3 : decode cX2_in 3 = .ok (.ifCond .lt 14, 3) := dk_155 0 14 (dk_at dksX2_in_0 3 rfl rfl)
theorem dX2_in_6 : decode cX2_in 6 = .ok (.lload_n 0, 1) := dk_30 (dk_at dksX2_in_0 6 rfl rfl)
theorem dX2_in_7 : decode cX2_in 7 = .ok (.lload 4, 2) := dk_22 4 (dk_at dksX2_in_0 7 rfl rfl)
theorem dX2_in_9 : decode cX2_in 9 = .ok (.lcmp, 1) := dk_148 (dk_at dksX2_in_0 9 rfl rfl)
theorem dX2_in_10 : decode cX2_in 10 = .ok (.ifCond .gt 7, 3) := dk_157 0 7 (dk_at dksX2_in_0 10 rfl rfl)
theorem dX2_in_13 : decode cX2_in 13 = .ok (.iconst 1, 1) := dk_4 (dk_at dksX2_in_0 13 rfl rfl)
theorem dX2_in_14 : decode cX2_in 14 = .ok (.goto 4, 3) := dk_167 0 4 (dk_at dksX2_in_0 14 rfl rfl)
theorem dX2_in_17 : decode cX2_in 17 = .ok (.iconst 0, 1) := dk_3 (dk_at dksX2_in_0 17 rfl rfl)
theorem dX2_in_18 : decode cX2_in 18 = .ok (.ireturn, 1) := dk_172 (dk_at dksX2_in_0 18 rfl rfl)
abbrev cX2_likeness : ByteArray := prog_11_method_7_code
def yX2_likeness : MethodName := ⟨RX2, "likeness", "(I)I"⟩
def dkwX2_likeness_1 : List UInt8 := [28, 172]
abbrev dktX2_likeness_1 : List UInt8 := dkwX2_likeness_1 ++ []
def dkwX2_likeness_0 : List UInt8 := [27, 133, 9, 20, 0, 144, 184, 0, 138, 154, 0, 5, 2, 172, 42, 180, 0, 13, 61, 42, 27, 181, 0, 13]
abbrev dktX2_likeness_0 : List UInt8 := dkwX2_likeness_0 ++ dktX2_likeness_1
theorem dksX2_likeness_0 : cX2_likeness.data.toList.drop 0 = dktX2_likeness_0 := by decide +kernel
theorem dksX2_likeness_1 : cX2_likeness.data.toList.drop 24 = dktX2_likeness_1 := dk_seg dksX2_likeness_0 24 rfl rfl
theorem dX2_likeness_0 : decode cX2_likeness 0 = .ok (.iload_n 1, 1) := dk_27 (dk_at dksX2_likeness_0 0 rfl rfl)
theorem dX2_likeness_1 : decode cX2_likeness 1 = .ok (.i2l, 1) := dk_133 (dk_at dksX2_likeness_0 1 rfl rfl)
theorem dX2_likeness_2 : decode cX2_likeness 2 = .ok (.lconst 0, 1) := dk_9 (dk_at dksX2_likeness_0 2 rfl rfl)
theorem dX2_likeness_3 : decode cX2_likeness 3 = .ok (.ldc2_w 144, 3) := dk_20 0 144 (dk_at dksX2_likeness_0 3 rfl rfl)
theorem dX2_likeness_6 : decode cX2_likeness 6 = .ok (.invokestatic 138, 3) := dk_184 0 138 (dk_at dksX2_likeness_0 6 rfl rfl)
theorem dX2_likeness_9 : decode cX2_likeness 9 = .ok (.ifCond .ne 5, 3) := dk_154 0 5 (dk_at dksX2_likeness_0 9 rfl rfl)
theorem dX2_likeness_12 : decode cX2_likeness 12 = .ok (.iconst (-1), 1) := dk_2 (dk_at dksX2_likeness_0 12 rfl rfl)
theorem dX2_likeness_13 : decode cX2_likeness 13 = .ok (.ireturn, 1) := dk_172 (dk_at dksX2_likeness_0 13 rfl rfl)
theorem dX2_likeness_14 : decode cX2_likeness 14 = .ok (.aload_n 0, 1) := dk_42 (dk_at dksX2_likeness_0 14 rfl rfl)
theorem dX2_likeness_15 : decode cX2_likeness 15 = .ok (.getfield 13, 3) := dk_180 0 13 (dk_at dksX2_likeness_0 15 rfl rfl)
theorem dX2_likeness_18 : decode cX2_likeness 18 = .ok (.istore_n 2, 1) := dk_61 (dk_at dksX2_likeness_0 18 rfl rfl)
theorem dX2_likeness_19 : decode cX2_likeness 19 = .ok (.aload_n 0, 1) := dk_42 (dk_at dksX2_likeness_0 19 rfl rfl)
theorem dX2_likeness_20 : decode cX2_likeness 20 = .ok (.iload_n 1, 1) := dk_27 (dk_at dksX2_likeness_0 20 rfl rfl)
theorem dX2_likeness_21 : decode cX2_likeness 21 = .ok (.putfield 13, 3) := dk_181 0 13 (dk_at dksX2_likeness_0 21 rfl rfl)
theorem dX2_likeness_24 : decode cX2_likeness 24 = .ok (.iload_n 2, 1) := dk_28 (dk_at dksX2_likeness_1 0 rfl rfl)
theorem dX2_likeness_25 : decode cX2_likeness 25 = .ok (.ireturn, 1) := dk_172 (dk_at dksX2_likeness_1 1 rfl rfl)
abbrev cX2_sign : ByteArray := prog_11_method_10_code
def yX2_sign : MethodName := ⟨RX2, "sign", "(I)I"⟩
def dkwX2_sign_1 : List UInt8 := [167, 0, 4, 2, 172]
abbrev dktX2_sign_1 : List UInt8 := dkwX2_sign_1 ++ []
def dkwX2_sign_0 : List UInt8 := [42, 42, 180, 0, 13, 182, 0, 150, 42, 27, 182, 0, 154, 153, 0, 12, 42, 180, 0, 17, 27, 46]
abbrev dktX2_sign_0 : List UInt8 := dkwX2_sign_0 ++ dktX2_sign_1
theorem dksX2_sign_0 : cX2_sign.data.toList.drop 0 = dktX2_sign_0 := by decide +kernel
theorem dksX2_sign_1 : cX2_sign.data.toList.drop 22 = dktX2_sign_1 := dk_seg dksX2_sign_0 22 rfl rfl
theorem dX2_sign_0 : decode cX2_sign 0 = .ok (.aload_n 0, 1) := dk_42 (dk_at dksX2_sign_0 0 rfl rfl)
theorem dX2_sign_1 : decode cX2_sign 1 = .ok (.aload_n 0, 1) := dk_42 (dk_at dksX2_sign_0 1 rfl rfl)
theorem dX2_sign_2 : decode cX2_sign 2 = .ok (.getfield 13, 3) := dk_180 0 13 (dk_at dksX2_sign_0 2 rfl rfl)
theorem dX2_sign_5 : decode cX2_sign 5 = .ok (.invokevirtual 150, 3) := dk_182 0 150 (dk_at dksX2_sign_0 5 rfl rfl)
theorem dX2_sign_8 : decode cX2_sign 8 = .ok (.aload_n 0, 1) := dk_42 (dk_at dksX2_sign_0 8 rfl rfl)
theorem dX2_sign_9 : decode cX2_sign 9 = .ok (.iload_n 1, 1) := dk_27 (dk_at dksX2_sign_0 9 rfl rfl)
theorem dX2_sign_10 : decode cX2_sign 10 = .ok (.invokevirtual 154, 3) := dk_182 0 154 (dk_at dksX2_sign_0 10 rfl rfl)
theorem dX2_sign_13 : decode cX2_sign 13 = .ok (.ifCond .eq 12, 3) := dk_153 0 12 (dk_at dksX2_sign_0 13 rfl rfl)
theorem dX2_sign_16 : decode cX2_sign 16 = .ok (.aload_n 0, 1) := dk_42 (dk_at dksX2_sign_0 16 rfl rfl)
theorem dX2_sign_17 : decode cX2_sign 17 = .ok (.getfield 17, 3) := dk_180 0 17 (dk_at dksX2_sign_0 17 rfl rfl)
theorem dX2_sign_20 : decode cX2_sign 20 = .ok (.iload_n 1, 1) := dk_27 (dk_at dksX2_sign_0 20 rfl rfl)
theorem dX2_sign_21 : decode cX2_sign 21 = .ok (.iaload, 1) := dk_46 (dk_at dksX2_sign_0 21 rfl rfl)
theorem dX2_sign_22 : decode cX2_sign 22 = .ok (.goto 4, 3) := dk_167 0 4 (dk_at dksX2_sign_1 0 rfl rfl)
theorem dX2_sign_25 : decode cX2_sign 25 = .ok (.iconst (-1), 1) := dk_2 (dk_at dksX2_sign_1 3 rfl rfl)
theorem dX2_sign_26 : decode cX2_sign 26 = .ok (.ireturn, 1) := dk_172 (dk_at dksX2_sign_1 4 rfl rfl)
abbrev cX2_findSigns : ByteArray := prog_11_method_8_code
def yX2_findSigns : MethodName := ⟨RX2, "findSigns", "(I)V"⟩
def dkwX2_findSigns_7 : List UInt8 := [79, 132, 6, 1, 167, 255, 213, 132, 3, 1, 167, 255, 114, 132, 2, 1, 167, 255, 98, 177]
abbrev dktX2_findSigns_7 : List UInt8 := dkwX2_findSigns_7 ++ []
def dkwX2_findSigns_6 : List UInt8 := [42, 180, 0, 17, 21, 6, 46, 21, 5, 160, 0, 8, 21, 4, 167, 0, 10, 42, 180, 0, 17, 21, 6, 46]
abbrev dktX2_findSigns_6 : List UInt8 := dkwX2_findSigns_6 ++ dktX2_findSigns_7
def dkwX2_findSigns_5 : List UInt8 := [96, 21, 4, 100, 54, 5, 3, 54, 6, 21, 6, 42, 180, 0, 135, 162, 0, 40, 42, 180, 0, 17, 21, 6]
abbrev dktX2_findSigns_5 : List UInt8 := dkwX2_findSigns_5 ++ dktX2_findSigns_6
def dkwX2_findSigns_4 : List UInt8 := [46, 167, 0, 9, 42, 180, 0, 17, 29, 46, 54, 4, 42, 180, 0, 17, 28, 46, 42, 180, 0, 17, 29, 46]
abbrev dktX2_findSigns_4 : List UInt8 := dkwX2_findSigns_4 ++ dktX2_findSigns_5
def dkwX2_findSigns_3 : List UInt8 := [46, 159, 0, 102, 42, 180, 0, 17, 28, 46, 42, 180, 0, 17, 29, 46, 162, 0, 12, 42, 180, 0, 17, 28]
abbrev dktX2_findSigns_3 : List UInt8 := dkwX2_findSigns_3 ++ dktX2_findSigns_4
def dkwX2_findSigns_2 : List UInt8 := [180, 0, 7, 29, 46, 130, 184, 0, 146, 27, 163, 0, 117, 42, 180, 0, 17, 28, 46, 42, 180, 0, 17, 29]
abbrev dktX2_findSigns_2 : List UInt8 := dkwX2_findSigns_2 ++ dktX2_findSigns_3
def dkwX2_findSigns_1 : List UInt8 := [61, 28, 42, 180, 0, 135, 162, 0, 156, 3, 62, 29, 28, 162, 0, 143, 42, 180, 0, 7, 28, 46, 42]
abbrev dktX2_findSigns_1 : List UInt8 := dkwX2_findSigns_1 ++ dktX2_findSigns_2
def dkwX2_findSigns_0 : List UInt8 := [3, 61, 28, 42, 180, 0, 135, 162, 0, 16, 42, 180, 0, 17, 28, 28, 79, 132, 2, 1, 167, 255, 238, 3]
abbrev dktX2_findSigns_0 : List UInt8 := dkwX2_findSigns_0 ++ dktX2_findSigns_1
theorem dksX2_findSigns_0 : cX2_findSigns.data.toList.drop 0 = dktX2_findSigns_0 := by decide +kernel
theorem dksX2_findSigns_1 : cX2_findSigns.data.toList.drop 24 = dktX2_findSigns_1 := dk_seg dksX2_findSigns_0 24 rfl rfl
theorem dksX2_findSigns_2 : cX2_findSigns.data.toList.drop 47 = dktX2_findSigns_2 := dk_seg dksX2_findSigns_1 23 rfl rfl
theorem dksX2_findSigns_3 : cX2_findSigns.data.toList.drop 71 = dktX2_findSigns_3 := dk_seg dksX2_findSigns_2 24 rfl rfl
theorem dksX2_findSigns_4 : cX2_findSigns.data.toList.drop 95 = dktX2_findSigns_4 := dk_seg dksX2_findSigns_3 24 rfl rfl
theorem dksX2_findSigns_5 : cX2_findSigns.data.toList.drop 119 = dktX2_findSigns_5 := dk_seg dksX2_findSigns_4 24 rfl rfl
theorem dksX2_findSigns_6 : cX2_findSigns.data.toList.drop 143 = dktX2_findSigns_6 := dk_seg dksX2_findSigns_5 24 rfl rfl
theorem dksX2_findSigns_7 : cX2_findSigns.data.toList.drop 167 = dktX2_findSigns_7 := dk_seg dksX2_findSigns_6 24 rfl rfl
theorem dX2_findSigns_0 : decode cX2_findSigns 0 = .ok (.iconst 0, 1) := dk_3 (dk_at dksX2_findSigns_0 0 rfl rfl)
theorem dX2_findSigns_1 : decode cX2_findSigns 1 = .ok (.istore_n 2, 1) := dk_61 (dk_at dksX2_findSigns_0 1 rfl rfl)
theorem dX2_findSigns_2 : decode cX2_findSigns 2 = .ok (.iload_n 2, 1) := dk_28 (dk_at dksX2_findSigns_0 2 rfl rfl)
theorem dX2_findSigns_3 : decode cX2_findSigns 3 = .ok (.aload_n 0, 1) := dk_42 (dk_at dksX2_findSigns_0 3 rfl rfl)
theorem dX2_findSigns_4 : decode cX2_findSigns 4 = .ok (.getfield 135, 3) := dk_180 0 135 (dk_at dksX2_findSigns_0 4 rfl rfl)
theorem dX2_findSigns_7 : decode cX2_findSigns 7 = .ok (.if_icmp .ge 16, 3) := dk_162 0 16 (dk_at dksX2_findSigns_0 7 rfl rfl)
theorem dX2_findSigns_10 : decode cX2_findSigns 10 = .ok (.aload_n 0, 1) := dk_42 (dk_at dksX2_findSigns_0 10 rfl rfl)
theorem dX2_findSigns_11 : decode cX2_findSigns 11 = .ok (.getfield 17, 3) := dk_180 0 17 (dk_at dksX2_findSigns_0 11 rfl rfl)
theorem dX2_findSigns_14 : decode cX2_findSigns 14 = .ok (.iload_n 2, 1) := dk_28 (dk_at dksX2_findSigns_0 14 rfl rfl)
theorem dX2_findSigns_15 : decode cX2_findSigns 15 = .ok (.iload_n 2, 1) := dk_28 (dk_at dksX2_findSigns_0 15 rfl rfl)
theorem dX2_findSigns_16 : decode cX2_findSigns 16 = .ok (.iastore, 1) := dk_79 (dk_at dksX2_findSigns_0 16 rfl rfl)
theorem dX2_findSigns_17 : decode cX2_findSigns 17 = .ok (.iinc 2 1, 3) := dk_132 2 1 (dk_at dksX2_findSigns_0 17 rfl rfl)
theorem dX2_findSigns_20 : decode cX2_findSigns 20 = .ok (.goto (-18), 3) := dk_167 255 238 (dk_at dksX2_findSigns_0 20 rfl rfl)
theorem dX2_findSigns_23 : decode cX2_findSigns 23 = .ok (.iconst 0, 1) := dk_3 (dk_at dksX2_findSigns_0 23 rfl rfl)
theorem dX2_findSigns_24 : decode cX2_findSigns 24 = .ok (.istore_n 2, 1) := dk_61 (dk_at dksX2_findSigns_1 0 rfl rfl)
theorem dX2_findSigns_25 : decode cX2_findSigns 25 = .ok (.iload_n 2, 1) := dk_28 (dk_at dksX2_findSigns_1 1 rfl rfl)
theorem dX2_findSigns_26 : decode cX2_findSigns 26 = .ok (.aload_n 0, 1) := dk_42 (dk_at dksX2_findSigns_1 2 rfl rfl)
theorem dX2_findSigns_27 : decode cX2_findSigns 27 = .ok (.getfield 135, 3) := dk_180 0 135 (dk_at dksX2_findSigns_1 3 rfl rfl)
theorem dX2_findSigns_30 : decode cX2_findSigns 30 = .ok (.if_icmp .ge 156, 3) := dk_162 0 156 (dk_at dksX2_findSigns_1 6 rfl rfl)
theorem dX2_findSigns_33 : decode cX2_findSigns 33 = .ok (.iconst 0, 1) := dk_3 (dk_at dksX2_findSigns_1 9 rfl rfl)
theorem dX2_findSigns_34 : decode cX2_findSigns 34 = .ok (.istore_n 3, 1) := dk_62 (dk_at dksX2_findSigns_1 10 rfl rfl)
theorem dX2_findSigns_35 : decode cX2_findSigns 35 = .ok (.iload_n 3, 1) := dk_29 (dk_at dksX2_findSigns_1 11 rfl rfl)
theorem dX2_findSigns_36 : decode cX2_findSigns 36 = .ok (.iload_n 2, 1) := dk_28 (dk_at dksX2_findSigns_1 12 rfl rfl)
theorem dX2_findSigns_37 : decode cX2_findSigns 37 = .ok (.if_icmp .ge 143, 3) := dk_162 0 143 (dk_at dksX2_findSigns_1 13 rfl rfl)
theorem dX2_findSigns_40 : decode cX2_findSigns 40 = .ok (.aload_n 0, 1) := dk_42 (dk_at dksX2_findSigns_1 16 rfl rfl)
theorem dX2_findSigns_41 : decode cX2_findSigns 41 = .ok (.getfield 7, 3) := dk_180 0 7 (dk_at dksX2_findSigns_1 17 rfl rfl)
theorem dX2_findSigns_44 : decode cX2_findSigns 44 = .ok (.iload_n 2, 1) := dk_28 (dk_at dksX2_findSigns_1 20 rfl rfl)
theorem dX2_findSigns_45 : decode cX2_findSigns 45 = .ok (.iaload, 1) := dk_46 (dk_at dksX2_findSigns_1 21 rfl rfl)
theorem dX2_findSigns_46 : decode cX2_findSigns 46 = .ok (.aload_n 0, 1) := dk_42 (dk_at dksX2_findSigns_1 22 rfl rfl)
theorem dX2_findSigns_47 : decode cX2_findSigns 47 = .ok (.getfield 7, 3) := dk_180 0 7 (dk_at dksX2_findSigns_2 0 rfl rfl)
theorem dX2_findSigns_50 : decode cX2_findSigns 50 = .ok (.iload_n 3, 1) := dk_29 (dk_at dksX2_findSigns_2 3 rfl rfl)
theorem dX2_findSigns_51 : decode cX2_findSigns 51 = .ok (.iaload, 1) := dk_46 (dk_at dksX2_findSigns_2 4 rfl rfl)
theorem dX2_findSigns_52 : decode cX2_findSigns 52 = .ok (.ixor, 1) := dk_130 (dk_at dksX2_findSigns_2 5 rfl rfl)
theorem dX2_findSigns_53 : decode cX2_findSigns 53 = .ok (.invokestatic 146, 3) := dk_184 0 146 (dk_at dksX2_findSigns_2 6 rfl rfl)
theorem dX2_findSigns_56 : decode cX2_findSigns 56 = .ok (.iload_n 1, 1) := dk_27 (dk_at dksX2_findSigns_2 9 rfl rfl)
theorem dX2_findSigns_57 : decode cX2_findSigns 57 = .ok (.if_icmp .gt 117, 3) := dk_163 0 117 (dk_at dksX2_findSigns_2 10 rfl rfl)
theorem dX2_findSigns_60 : decode cX2_findSigns 60 = .ok (.aload_n 0, 1) := dk_42 (dk_at dksX2_findSigns_2 13 rfl rfl)
theorem dX2_findSigns_61 : decode cX2_findSigns 61 = .ok (.getfield 17, 3) := dk_180 0 17 (dk_at dksX2_findSigns_2 14 rfl rfl)
theorem dX2_findSigns_64 : decode cX2_findSigns 64 = .ok (.iload_n 2, 1) := dk_28 (dk_at dksX2_findSigns_2 17 rfl rfl)
theorem dX2_findSigns_65 : decode cX2_findSigns 65 = .ok (.iaload, 1) := dk_46 (dk_at dksX2_findSigns_2 18 rfl rfl)
theorem dX2_findSigns_66 : decode cX2_findSigns 66 = .ok (.aload_n 0, 1) := dk_42 (dk_at dksX2_findSigns_2 19 rfl rfl)
theorem dX2_findSigns_67 : decode cX2_findSigns 67 = .ok (.getfield 17, 3) := dk_180 0 17 (dk_at dksX2_findSigns_2 20 rfl rfl)
theorem dX2_findSigns_70 : decode cX2_findSigns 70 = .ok (.iload_n 3, 1) := dk_29 (dk_at dksX2_findSigns_2 23 rfl rfl)
theorem dX2_findSigns_71 : decode cX2_findSigns 71 = .ok (.iaload, 1) := dk_46 (dk_at dksX2_findSigns_3 0 rfl rfl)
theorem dX2_findSigns_72 : decode cX2_findSigns 72 = .ok (.if_icmp .eq 102, 3) := dk_159 0 102 (dk_at dksX2_findSigns_3 1 rfl rfl)
theorem dX2_findSigns_75 : decode cX2_findSigns 75 = .ok (.aload_n 0, 1) := dk_42 (dk_at dksX2_findSigns_3 4 rfl rfl)
theorem dX2_findSigns_76 : decode cX2_findSigns 76 = .ok (.getfield 17, 3) := dk_180 0 17 (dk_at dksX2_findSigns_3 5 rfl rfl)
theorem dX2_findSigns_79 : decode cX2_findSigns 79 = .ok (.iload_n 2, 1) := dk_28 (dk_at dksX2_findSigns_3 8 rfl rfl)
theorem dX2_findSigns_80 : decode cX2_findSigns 80 = .ok (.iaload, 1) := dk_46 (dk_at dksX2_findSigns_3 9 rfl rfl)
theorem dX2_findSigns_81 : decode cX2_findSigns 81 = .ok (.aload_n 0, 1) := dk_42 (dk_at dksX2_findSigns_3 10 rfl rfl)
theorem dX2_findSigns_82 : decode cX2_findSigns 82 = .ok (.getfield 17, 3) := dk_180 0 17 (dk_at dksX2_findSigns_3 11 rfl rfl)
theorem dX2_findSigns_85 : decode cX2_findSigns 85 = .ok (.iload_n 3, 1) := dk_29 (dk_at dksX2_findSigns_3 14 rfl rfl)
theorem dX2_findSigns_86 : decode cX2_findSigns 86 = .ok (.iaload, 1) := dk_46 (dk_at dksX2_findSigns_3 15 rfl rfl)
theorem dX2_findSigns_87 : decode cX2_findSigns 87 = .ok (.if_icmp .ge 12, 3) := dk_162 0 12 (dk_at dksX2_findSigns_3 16 rfl rfl)
theorem dX2_findSigns_90 : decode cX2_findSigns 90 = .ok (.aload_n 0, 1) := dk_42 (dk_at dksX2_findSigns_3 19 rfl rfl)
theorem dX2_findSigns_91 : decode cX2_findSigns 91 = .ok (.getfield 17, 3) := dk_180 0 17 (dk_at dksX2_findSigns_3 20 rfl rfl)
theorem dX2_findSigns_94 : decode cX2_findSigns 94 = .ok (.iload_n 2, 1) := dk_28 (dk_at dksX2_findSigns_3 23 rfl rfl)
theorem dX2_findSigns_95 : decode cX2_findSigns 95 = .ok (.iaload, 1) := dk_46 (dk_at dksX2_findSigns_4 0 rfl rfl)
theorem dX2_findSigns_96 : decode cX2_findSigns 96 = .ok (.goto 9, 3) := dk_167 0 9 (dk_at dksX2_findSigns_4 1 rfl rfl)
theorem dX2_findSigns_99 : decode cX2_findSigns 99 = .ok (.aload_n 0, 1) := dk_42 (dk_at dksX2_findSigns_4 4 rfl rfl)
theorem dX2_findSigns_100 : decode cX2_findSigns 100 = .ok (.getfield 17, 3) := dk_180 0 17 (dk_at dksX2_findSigns_4 5 rfl rfl)
theorem dX2_findSigns_103 : decode cX2_findSigns 103 = .ok (.iload_n 3, 1) := dk_29 (dk_at dksX2_findSigns_4 8 rfl rfl)
theorem dX2_findSigns_104 : decode cX2_findSigns 104 = .ok (.iaload, 1) := dk_46 (dk_at dksX2_findSigns_4 9 rfl rfl)
theorem dX2_findSigns_105 : decode cX2_findSigns 105 = .ok (.istore 4, 2) := dk_54 4 (dk_at dksX2_findSigns_4 10 rfl rfl)
theorem dX2_findSigns_107 : decode cX2_findSigns 107 = .ok (.aload_n 0, 1) := dk_42 (dk_at dksX2_findSigns_4 12 rfl rfl)
theorem dX2_findSigns_108 : decode cX2_findSigns 108 = .ok (.getfield 17, 3) := dk_180 0 17 (dk_at dksX2_findSigns_4 13 rfl rfl)
theorem dX2_findSigns_111 : decode cX2_findSigns 111 = .ok (.iload_n 2, 1) := dk_28 (dk_at dksX2_findSigns_4 16 rfl rfl)
theorem dX2_findSigns_112 : decode cX2_findSigns 112 = .ok (.iaload, 1) := dk_46 (dk_at dksX2_findSigns_4 17 rfl rfl)
theorem dX2_findSigns_113 : decode cX2_findSigns 113 = .ok (.aload_n 0, 1) := dk_42 (dk_at dksX2_findSigns_4 18 rfl rfl)
theorem dX2_findSigns_114 : decode cX2_findSigns 114 = .ok (.getfield 17, 3) := dk_180 0 17 (dk_at dksX2_findSigns_4 19 rfl rfl)
theorem dX2_findSigns_117 : decode cX2_findSigns 117 = .ok (.iload_n 3, 1) := dk_29 (dk_at dksX2_findSigns_4 22 rfl rfl)
theorem dX2_findSigns_118 : decode cX2_findSigns 118 = .ok (.iaload, 1) := dk_46 (dk_at dksX2_findSigns_4 23 rfl rfl)
theorem dX2_findSigns_119 : decode cX2_findSigns 119 = .ok (.iadd, 1) := dk_96 (dk_at dksX2_findSigns_5 0 rfl rfl)
theorem dX2_findSigns_120 : decode cX2_findSigns 120 = .ok (.iload 4, 2) := dk_21 4 (dk_at dksX2_findSigns_5 1 rfl rfl)
theorem dX2_findSigns_122 : decode cX2_findSigns 122 = .ok (.isub, 1) := dk_100 (dk_at dksX2_findSigns_5 3 rfl rfl)
theorem dX2_findSigns_123 : decode cX2_findSigns 123 = .ok (.istore 5, 2) := dk_54 5 (dk_at dksX2_findSigns_5 4 rfl rfl)
theorem dX2_findSigns_125 : decode cX2_findSigns 125 = .ok (.iconst 0, 1) := dk_3 (dk_at dksX2_findSigns_5 6 rfl rfl)
theorem dX2_findSigns_126 : decode cX2_findSigns 126 = .ok (.istore 6, 2) := dk_54 6 (dk_at dksX2_findSigns_5 7 rfl rfl)
theorem dX2_findSigns_128 : decode cX2_findSigns 128 = .ok (.iload 6, 2) := dk_21 6 (dk_at dksX2_findSigns_5 9 rfl rfl)
theorem dX2_findSigns_130 : decode cX2_findSigns 130 = .ok (.aload_n 0, 1) := dk_42 (dk_at dksX2_findSigns_5 11 rfl rfl)
theorem dX2_findSigns_131 : decode cX2_findSigns 131 = .ok (.getfield 135, 3) := dk_180 0 135 (dk_at dksX2_findSigns_5 12 rfl rfl)
theorem dX2_findSigns_134 : decode cX2_findSigns 134 = .ok (.if_icmp .ge 40, 3) := dk_162 0 40 (dk_at dksX2_findSigns_5 15 rfl rfl)
theorem dX2_findSigns_137 : decode cX2_findSigns 137 = .ok (.aload_n 0, 1) := dk_42 (dk_at dksX2_findSigns_5 18 rfl rfl)
theorem dX2_findSigns_138 : decode cX2_findSigns 138 = .ok (.getfield 17, 3) := dk_180 0 17 (dk_at dksX2_findSigns_5 19 rfl rfl)
theorem dX2_findSigns_141 : decode cX2_findSigns 141 = .ok (.iload 6, 2) := dk_21 6 (dk_at dksX2_findSigns_5 22 rfl rfl)
theorem dX2_findSigns_143 : decode cX2_findSigns 143 = .ok (.aload_n 0, 1) := dk_42 (dk_at dksX2_findSigns_6 0 rfl rfl)
theorem dX2_findSigns_144 : decode cX2_findSigns 144 = .ok (.getfield 17, 3) := dk_180 0 17 (dk_at dksX2_findSigns_6 1 rfl rfl)
theorem dX2_findSigns_147 : decode cX2_findSigns 147 = .ok (.iload 6, 2) := dk_21 6 (dk_at dksX2_findSigns_6 4 rfl rfl)
theorem dX2_findSigns_149 : decode cX2_findSigns 149 = .ok (.iaload, 1) := dk_46 (dk_at dksX2_findSigns_6 6 rfl rfl)
theorem dX2_findSigns_150 : decode cX2_findSigns 150 = .ok (.iload 5, 2) := dk_21 5 (dk_at dksX2_findSigns_6 7 rfl rfl)
theorem dX2_findSigns_152 : decode cX2_findSigns 152 = .ok (.if_icmp .ne 8, 3) := dk_160 0 8 (dk_at dksX2_findSigns_6 9 rfl rfl)
theorem dX2_findSigns_155 : decode cX2_findSigns 155 = .ok (.iload 4, 2) := dk_21 4 (dk_at dksX2_findSigns_6 12 rfl rfl)
theorem dX2_findSigns_157 : decode cX2_findSigns 157 = .ok (.goto 10, 3) := dk_167 0 10 (dk_at dksX2_findSigns_6 14 rfl rfl)
theorem dX2_findSigns_160 : decode cX2_findSigns 160 = .ok (.aload_n 0, 1) := dk_42 (dk_at dksX2_findSigns_6 17 rfl rfl)
theorem dX2_findSigns_161 : decode cX2_findSigns 161 = .ok (.getfield 17, 3) := dk_180 0 17 (dk_at dksX2_findSigns_6 18 rfl rfl)
theorem dX2_findSigns_164 : decode cX2_findSigns 164 = .ok (.iload 6, 2) := dk_21 6 (dk_at dksX2_findSigns_6 21 rfl rfl)
theorem dX2_findSigns_166 : decode cX2_findSigns 166 = .ok (.iaload, 1) := dk_46 (dk_at dksX2_findSigns_6 23 rfl rfl)
theorem dX2_findSigns_167 : decode cX2_findSigns 167 = .ok (.iastore, 1) := dk_79 (dk_at dksX2_findSigns_7 0 rfl rfl)
theorem dX2_findSigns_168 : decode cX2_findSigns 168 = .ok (.iinc 6 1, 3) := dk_132 6 1 (dk_at dksX2_findSigns_7 1 rfl rfl)
theorem dX2_findSigns_171 : decode cX2_findSigns 171 = .ok (.goto (-43), 3) := dk_167 255 213 (dk_at dksX2_findSigns_7 4 rfl rfl)
theorem dX2_findSigns_174 : decode cX2_findSigns 174 = .ok (.iinc 3 1, 3) := dk_132 3 1 (dk_at dksX2_findSigns_7 7 rfl rfl)
theorem dX2_findSigns_177 : decode cX2_findSigns 177 = .ok (.goto (-142), 3) := dk_167 255 114 (dk_at dksX2_findSigns_7 10 rfl rfl)
theorem dX2_findSigns_180 : decode cX2_findSigns 180 = .ok (.iinc 2 1, 3) := dk_132 2 1 (dk_at dksX2_findSigns_7 13 rfl rfl)
theorem dX2_findSigns_183 : decode cX2_findSigns 183 = .ok (.goto (-158), 3) := dk_167 255 98 (dk_at dksX2_findSigns_7 16 rfl rfl)
theorem dX2_findSigns_186 : decode cX2_findSigns 186 = .ok (.return_, 1) := dk_177 (dk_at dksX2_findSigns_7 19 rfl rfl)
abbrev cX2_bits : ByteArray := prog_11_method_4_code
def yX2_bits : MethodName := ⟨RX2, "bits", "(I)I"⟩
def dkwX2_bits_1 : List UInt8 := [27, 172]
abbrev dktX2_bits_1 : List UInt8 := dkwX2_bits_1 ++ []
def dkwX2_bits_0 : List UInt8 := [3, 60, 3, 61, 28, 16, 24, 162, 0, 17, 27, 26, 28, 122, 4, 126, 96, 60, 132, 2, 1, 167, 255, 239]
abbrev dktX2_bits_0 : List UInt8 := dkwX2_bits_0 ++ dktX2_bits_1
theorem dksX2_bits_0 : cX2_bits.data.toList.drop 0 = dktX2_bits_0 := by decide +kernel
theorem dksX2_bits_1 : cX2_bits.data.toList.drop 24 = dktX2_bits_1 := dk_seg dksX2_bits_0 24 rfl rfl
theorem dX2_bits_0 : decode cX2_bits 0 = .ok (.iconst 0, 1) := dk_3 (dk_at dksX2_bits_0 0 rfl rfl)
theorem dX2_bits_1 : decode cX2_bits 1 = .ok (.istore_n 1, 1) := dk_60 (dk_at dksX2_bits_0 1 rfl rfl)
theorem dX2_bits_2 : decode cX2_bits 2 = .ok (.iconst 0, 1) := dk_3 (dk_at dksX2_bits_0 2 rfl rfl)
theorem dX2_bits_3 : decode cX2_bits 3 = .ok (.istore_n 2, 1) := dk_61 (dk_at dksX2_bits_0 3 rfl rfl)
theorem dX2_bits_4 : decode cX2_bits 4 = .ok (.iload_n 2, 1) := dk_28 (dk_at dksX2_bits_0 4 rfl rfl)
theorem dX2_bits_5 : decode cX2_bits 5 = .ok (.bipush 24, 2) := dk_16 24 (dk_at dksX2_bits_0 5 rfl rfl)
theorem dX2_bits_7 : decode cX2_bits 7 = .ok (.if_icmp .ge 17, 3) := dk_162 0 17 (dk_at dksX2_bits_0 7 rfl rfl)
theorem dX2_bits_10 : decode cX2_bits 10 = .ok (.iload_n 1, 1) := dk_27 (dk_at dksX2_bits_0 10 rfl rfl)
theorem dX2_bits_11 : decode cX2_bits 11 = .ok (.iload_n 0, 1) := dk_26 (dk_at dksX2_bits_0 11 rfl rfl)
theorem dX2_bits_12 : decode cX2_bits 12 = .ok (.iload_n 2, 1) := dk_28 (dk_at dksX2_bits_0 12 rfl rfl)
theorem dX2_bits_13 : decode cX2_bits 13 = .ok (.ishr, 1) := dk_122 (dk_at dksX2_bits_0 13 rfl rfl)
theorem dX2_bits_14 : decode cX2_bits 14 = .ok (.iconst 1, 1) := dk_4 (dk_at dksX2_bits_0 14 rfl rfl)
theorem dX2_bits_15 : decode cX2_bits 15 = .ok (.iand, 1) := dk_126 (dk_at dksX2_bits_0 15 rfl rfl)
theorem dX2_bits_16 : decode cX2_bits 16 = .ok (.iadd, 1) := dk_96 (dk_at dksX2_bits_0 16 rfl rfl)
theorem dX2_bits_17 : decode cX2_bits 17 = .ok (.istore_n 1, 1) := dk_60 (dk_at dksX2_bits_0 17 rfl rfl)
theorem dX2_bits_18 : decode cX2_bits 18 = .ok (.iinc 2 1, 3) := dk_132 2 1 (dk_at dksX2_bits_0 18 rfl rfl)
theorem dX2_bits_21 : decode cX2_bits 21 = .ok (.goto (-17), 3) := dk_167 255 239 (dk_at dksX2_bits_0 21 rfl rfl)
theorem dX2_bits_24 : decode cX2_bits 24 = .ok (.iload_n 1, 1) := dk_27 (dk_at dksX2_bits_1 0 rfl rfl)
theorem dX2_bits_25 : decode cX2_bits 25 = .ok (.ireturn, 1) := dk_172 (dk_at dksX2_bits_1 1 rfl rfl)
abbrev cX2_isForm : ByteArray := prog_11_method_5_code
def yX2_isForm : MethodName := ⟨RX2, "isForm", "(I)Z"⟩
def dkwX2_isForm_0 : List UInt8 := [27, 133, 9, 42, 180, 0, 135, 4, 100, 133, 184, 0, 138, 172]
abbrev dktX2_isForm_0 : List UInt8 := dkwX2_isForm_0 ++ []
theorem dksX2_isForm_0 : cX2_isForm.data.toList.drop 0 = dktX2_isForm_0 := by decide +kernel
theorem dX2_isForm_0 : decode cX2_isForm 0 = .ok (.iload_n 1, 1) := dk_27 (dk_at dksX2_isForm_0 0 rfl rfl)
theorem dX2_isForm_1 : decode cX2_isForm 1 = .ok (.i2l, 1) := dk_133 (dk_at dksX2_isForm_0 1 rfl rfl)
theorem dX2_isForm_2 : decode cX2_isForm 2 = .ok (.lconst 0, 1) := dk_9 (dk_at dksX2_isForm_0 2 rfl rfl)
theorem dX2_isForm_3 : decode cX2_isForm 3 = .ok (.aload_n 0, 1) := dk_42 (dk_at dksX2_isForm_0 3 rfl rfl)
theorem dX2_isForm_4 : decode cX2_isForm 4 = .ok (.getfield 135, 3) := dk_180 0 135 (dk_at dksX2_isForm_0 4 rfl rfl)
theorem dX2_isForm_7 : decode cX2_isForm 7 = .ok (.iconst 1, 1) := dk_4 (dk_at dksX2_isForm_0 7 rfl rfl)
theorem dX2_isForm_8 : decode cX2_isForm 8 = .ok (.isub, 1) := dk_100 (dk_at dksX2_isForm_0 8 rfl rfl)
theorem dX2_isForm_9 : decode cX2_isForm 9 = .ok (.i2l, 1) := dk_133 (dk_at dksX2_isForm_0 9 rfl rfl)
theorem dX2_isForm_10 : decode cX2_isForm 10 = .ok (.invokestatic 138, 3) := dk_184 0 138 (dk_at dksX2_isForm_0 10 rfl rfl)
theorem dX2_isForm_13 : decode cX2_isForm 13 = .ok (.ireturn, 1) := dk_172 (dk_at dksX2_isForm_0 13 rfl rfl)
abbrev cX2_signs : ByteArray := prog_11_method_11_code
def yX2_signs : MethodName := ⟨RX2, "signs", "(I)I"⟩
def dkwX2_signs_6 : List UInt8 := [167, 0, 13, 27, 4, 160, 0, 7, 28, 167, 0, 4, 29, 172]
abbrev dktX2_signs_6 : List UInt8 := dkwX2_signs_6 ++ []
def dkwX2_signs_5 : List UInt8 := [28, 164, 0, 9, 21, 5, 61, 21, 4, 62, 132, 4, 1, 167, 255, 189, 27, 154, 0, 10, 42, 182, 0, 160]
abbrev dktX2_signs_5 : List UInt8 := dkwX2_signs_5 ++ dktX2_signs_6
def dkwX2_signs_4 : List UInt8 := [21, 6, 46, 21, 4, 160, 0, 7, 4, 167, 0, 4, 3, 96, 54, 5, 132, 6, 1, 167, 255, 222, 21, 5]
abbrev dktX2_signs_4 : List UInt8 := dkwX2_signs_4 ++ dktX2_signs_5
def dkwX2_signs_3 : List UInt8 := [162, 0, 64, 3, 54, 5, 3, 54, 6, 21, 6, 42, 180, 0, 135, 162, 0, 31, 21, 5, 42, 180, 0, 17]
abbrev dktX2_signs_3 : List UInt8 := dkwX2_signs_3 ++ dktX2_signs_4
def dkwX2_signs_2 : List UInt8 := [42, 42, 180, 0, 13, 182, 0, 150, 3, 61, 16, 252, 62, 3, 54, 4, 21, 4, 42, 180, 0, 135]
abbrev dktX2_signs_2 : List UInt8 := dkwX2_signs_2 ++ dktX2_signs_3
def dkwX2_signs_1 : List UInt8 := [182, 0, 150, 42, 182, 0, 160, 4, 164, 0, 14, 132, 2, 1, 42, 28, 182, 0, 150, 167, 255, 240, 28, 172]
abbrev dktX2_signs_1 : List UInt8 := dkwX2_signs_1 ++ dktX2_signs_2
def dkwX2_signs_0 : List UInt8 := [27, 133, 9, 20, 0, 158, 184, 0, 138, 154, 0, 5, 2, 172, 27, 6, 160, 0, 31, 3, 61, 42, 3]
abbrev dktX2_signs_0 : List UInt8 := dkwX2_signs_0 ++ dktX2_signs_1
theorem dksX2_signs_0 : cX2_signs.data.toList.drop 0 = dktX2_signs_0 := by decide +kernel
theorem dksX2_signs_1 : cX2_signs.data.toList.drop 23 = dktX2_signs_1 := dk_seg dksX2_signs_0 23 rfl rfl
theorem dksX2_signs_2 : cX2_signs.data.toList.drop 47 = dktX2_signs_2 := dk_seg dksX2_signs_1 24 rfl rfl
theorem dksX2_signs_3 : cX2_signs.data.toList.drop 69 = dktX2_signs_3 := dk_seg dksX2_signs_2 22 rfl rfl
theorem dksX2_signs_4 : cX2_signs.data.toList.drop 93 = dktX2_signs_4 := dk_seg dksX2_signs_3 24 rfl rfl
theorem dksX2_signs_5 : cX2_signs.data.toList.drop 117 = dktX2_signs_5 := dk_seg dksX2_signs_4 24 rfl rfl
theorem dksX2_signs_6 : cX2_signs.data.toList.drop 141 = dktX2_signs_6 := dk_seg dksX2_signs_5 24 rfl rfl
theorem dX2_signs_0 : decode cX2_signs 0 = .ok (.iload_n 1, 1) := dk_27 (dk_at dksX2_signs_0 0 rfl rfl)
theorem dX2_signs_1 : decode cX2_signs 1 = .ok (.i2l, 1) := dk_133 (dk_at dksX2_signs_0 1 rfl rfl)
theorem dX2_signs_2 : decode cX2_signs 2 = .ok (.lconst 0, 1) := dk_9 (dk_at dksX2_signs_0 2 rfl rfl)
theorem dX2_signs_3 : decode cX2_signs 3 = .ok (.ldc2_w 158, 3) := dk_20 0 158 (dk_at dksX2_signs_0 3 rfl rfl)
theorem dX2_signs_6 : decode cX2_signs 6 = .ok (.invokestatic 138, 3) := dk_184 0 138 (dk_at dksX2_signs_0 6 rfl rfl)
theorem dX2_signs_9 : decode cX2_signs 9 = .ok (.ifCond .ne 5, 3) := dk_154 0 5 (dk_at dksX2_signs_0 9 rfl rfl)
theorem dX2_signs_12 : decode cX2_signs 12 = .ok (.iconst (-1), 1) := dk_2 (dk_at dksX2_signs_0 12 rfl rfl)
theorem dX2_signs_13 : decode cX2_signs 13 = .ok (.ireturn, 1) := dk_172 (dk_at dksX2_signs_0 13 rfl rfl)
theorem dX2_signs_14 : decode cX2_signs 14 = .ok (.iload_n 1, 1) := dk_27 (dk_at dksX2_signs_0 14 rfl rfl)
theorem dX2_signs_15 : decode cX2_signs 15 = .ok (.iconst 3, 1) := dk_6 (dk_at dksX2_signs_0 15 rfl rfl)
theorem dX2_signs_16 : decode cX2_signs 16 = .ok (.if_icmp .ne 31, 3) := dk_160 0 31 (dk_at dksX2_signs_0 16 rfl rfl)
theorem dX2_signs_19 : decode cX2_signs 19 = .ok (.iconst 0, 1) := dk_3 (dk_at dksX2_signs_0 19 rfl rfl)
theorem dX2_signs_20 : decode cX2_signs 20 = .ok (.istore_n 2, 1) := dk_61 (dk_at dksX2_signs_0 20 rfl rfl)
theorem dX2_signs_21 : decode cX2_signs 21 = .ok (.aload_n 0, 1) := dk_42 (dk_at dksX2_signs_0 21 rfl rfl)
theorem dX2_signs_22 : decode cX2_signs 22 = .ok (.iconst 0, 1) := dk_3 (dk_at dksX2_signs_0 22 rfl rfl)
theorem dX2_signs_23 : decode cX2_signs 23 = .ok (.invokevirtual 150, 3) := dk_182 0 150 (dk_at dksX2_signs_1 0 rfl rfl)
theorem dX2_signs_26 : decode cX2_signs 26 = .ok (.aload_n 0, 1) := dk_42 (dk_at dksX2_signs_1 3 rfl rfl)
theorem dX2_signs_27 : decode cX2_signs 27 = .ok (.invokevirtual 160, 3) := dk_182 0 160 (dk_at dksX2_signs_1 4 rfl rfl)
theorem dX2_signs_30 : decode cX2_signs 30 = .ok (.iconst 1, 1) := dk_4 (dk_at dksX2_signs_1 7 rfl rfl)
theorem dX2_signs_31 : decode cX2_signs 31 = .ok (.if_icmp .le 14, 3) := dk_164 0 14 (dk_at dksX2_signs_1 8 rfl rfl)
theorem dX2_signs_34 : decode cX2_signs 34 = .ok (.iinc 2 1, 3) := dk_132 2 1 (dk_at dksX2_signs_1 11 rfl rfl)
theorem dX2_signs_37 : decode cX2_signs 37 = .ok (.aload_n 0, 1) := dk_42 (dk_at dksX2_signs_1 14 rfl rfl)
theorem dX2_signs_38 : decode cX2_signs 38 = .ok (.iload_n 2, 1) := dk_28 (dk_at dksX2_signs_1 15 rfl rfl)
theorem dX2_signs_39 : decode cX2_signs 39 = .ok (.invokevirtual 150, 3) := dk_182 0 150 (dk_at dksX2_signs_1 16 rfl rfl)
theorem dX2_signs_42 : decode cX2_signs 42 = .ok (.goto (-16), 3) := dk_167 255 240 (dk_at dksX2_signs_1 19 rfl rfl)
theorem dX2_signs_45 : decode cX2_signs 45 = .ok (.iload_n 2, 1) := dk_28 (dk_at dksX2_signs_1 22 rfl rfl)
theorem dX2_signs_46 : decode cX2_signs 46 = .ok (.ireturn, 1) := dk_172 (dk_at dksX2_signs_1 23 rfl rfl)
theorem dX2_signs_47 : decode cX2_signs 47 = .ok (.aload_n 0, 1) := dk_42 (dk_at dksX2_signs_2 0 rfl rfl)
theorem dX2_signs_48 : decode cX2_signs 48 = .ok (.aload_n 0, 1) := dk_42 (dk_at dksX2_signs_2 1 rfl rfl)
theorem dX2_signs_49 : decode cX2_signs 49 = .ok (.getfield 13, 3) := dk_180 0 13 (dk_at dksX2_signs_2 2 rfl rfl)
theorem dX2_signs_52 : decode cX2_signs 52 = .ok (.invokevirtual 150, 3) := dk_182 0 150 (dk_at dksX2_signs_2 5 rfl rfl)
theorem dX2_signs_55 : decode cX2_signs 55 = .ok (.iconst 0, 1) := dk_3 (dk_at dksX2_signs_2 8 rfl rfl)
theorem dX2_signs_56 : decode cX2_signs 56 = .ok (.istore_n 2, 1) := dk_61 (dk_at dksX2_signs_2 9 rfl rfl)
theorem dX2_signs_57 : decode cX2_signs 57 = .ok (.bipush (-4), 2) := dk_16 252 (dk_at dksX2_signs_2 10 rfl rfl)
theorem dX2_signs_59 : decode cX2_signs 59 = .ok (.istore_n 3, 1) := dk_62 (dk_at dksX2_signs_2 12 rfl rfl)
theorem dX2_signs_60 : decode cX2_signs 60 = .ok (.iconst 0, 1) := dk_3 (dk_at dksX2_signs_2 13 rfl rfl)
theorem dX2_signs_61 : decode cX2_signs 61 = .ok (.istore 4, 2) := dk_54 4 (dk_at dksX2_signs_2 14 rfl rfl)
theorem dX2_signs_63 : decode cX2_signs 63 = .ok (.iload 4, 2) := dk_21 4 (dk_at dksX2_signs_2 16 rfl rfl)
theorem dX2_signs_65 : decode cX2_signs 65 = .ok (.aload_n 0, 1) := dk_42 (dk_at dksX2_signs_2 18 rfl rfl)
theorem dX2_signs_66 : decode cX2_signs 66 = .ok (.getfield 135, 3) := dk_180 0 135 (dk_at dksX2_signs_2 19 rfl rfl)
theorem dX2_signs_69 : decode cX2_signs 69 = .ok (.if_icmp .ge 64, 3) := dk_162 0 64 (dk_at dksX2_signs_3 0 rfl rfl)
theorem dX2_signs_72 : decode cX2_signs 72 = .ok (.iconst 0, 1) := dk_3 (dk_at dksX2_signs_3 3 rfl rfl)
theorem dX2_signs_73 : decode cX2_signs 73 = .ok (.istore 5, 2) := dk_54 5 (dk_at dksX2_signs_3 4 rfl rfl)
theorem dX2_signs_75 : decode cX2_signs 75 = .ok (.iconst 0, 1) := dk_3 (dk_at dksX2_signs_3 6 rfl rfl)
theorem dX2_signs_76 : decode cX2_signs 76 = .ok (.istore 6, 2) := dk_54 6 (dk_at dksX2_signs_3 7 rfl rfl)
theorem dX2_signs_78 : decode cX2_signs 78 = .ok (.iload 6, 2) := dk_21 6 (dk_at dksX2_signs_3 9 rfl rfl)
theorem dX2_signs_80 : decode cX2_signs 80 = .ok (.aload_n 0, 1) := dk_42 (dk_at dksX2_signs_3 11 rfl rfl)
theorem dX2_signs_81 : decode cX2_signs 81 = .ok (.getfield 135, 3) := dk_180 0 135 (dk_at dksX2_signs_3 12 rfl rfl)
theorem dX2_signs_84 : decode cX2_signs 84 = .ok (.if_icmp .ge 31, 3) := dk_162 0 31 (dk_at dksX2_signs_3 15 rfl rfl)
theorem dX2_signs_87 : decode cX2_signs 87 = .ok (.iload 5, 2) := dk_21 5 (dk_at dksX2_signs_3 18 rfl rfl)
theorem dX2_signs_89 : decode cX2_signs 89 = .ok (.aload_n 0, 1) := dk_42 (dk_at dksX2_signs_3 20 rfl rfl)
theorem dX2_signs_90 : decode cX2_signs 90 = .ok (.getfield 17, 3) := dk_180 0 17 (dk_at dksX2_signs_3 21 rfl rfl)
theorem dX2_signs_93 : decode cX2_signs 93 = .ok (.iload 6, 2) := dk_21 6 (dk_at dksX2_signs_4 0 rfl rfl)
theorem dX2_signs_95 : decode cX2_signs 95 = .ok (.iaload, 1) := dk_46 (dk_at dksX2_signs_4 2 rfl rfl)
theorem dX2_signs_96 : decode cX2_signs 96 = .ok (.iload 4, 2) := dk_21 4 (dk_at dksX2_signs_4 3 rfl rfl)
theorem dX2_signs_98 : decode cX2_signs 98 = .ok (.if_icmp .ne 7, 3) := dk_160 0 7 (dk_at dksX2_signs_4 5 rfl rfl)
theorem dX2_signs_101 : decode cX2_signs 101 = .ok (.iconst 1, 1) := dk_4 (dk_at dksX2_signs_4 8 rfl rfl)
theorem dX2_signs_102 : decode cX2_signs 102 = .ok (.goto 4, 3) := dk_167 0 4 (dk_at dksX2_signs_4 9 rfl rfl)
theorem dX2_signs_105 : decode cX2_signs 105 = .ok (.iconst 0, 1) := dk_3 (dk_at dksX2_signs_4 12 rfl rfl)
theorem dX2_signs_106 : decode cX2_signs 106 = .ok (.iadd, 1) := dk_96 (dk_at dksX2_signs_4 13 rfl rfl)
theorem dX2_signs_107 : decode cX2_signs 107 = .ok (.istore 5, 2) := dk_54 5 (dk_at dksX2_signs_4 14 rfl rfl)
theorem dX2_signs_109 : decode cX2_signs 109 = .ok (.iinc 6 1, 3) := dk_132 6 1 (dk_at dksX2_signs_4 16 rfl rfl)
theorem dX2_signs_112 : decode cX2_signs 112 = .ok (.goto (-34), 3) := dk_167 255 222 (dk_at dksX2_signs_4 19 rfl rfl)
theorem dX2_signs_115 : decode cX2_signs 115 = .ok (.iload 5, 2) := dk_21 5 (dk_at dksX2_signs_4 22 rfl rfl)
theorem dX2_signs_117 : decode cX2_signs 117 = .ok (.iload_n 2, 1) := dk_28 (dk_at dksX2_signs_5 0 rfl rfl)
theorem dX2_signs_118 : decode cX2_signs 118 = .ok (.if_icmp .le 9, 3) := dk_164 0 9 (dk_at dksX2_signs_5 1 rfl rfl)
theorem dX2_signs_121 : decode cX2_signs 121 = .ok (.iload 5, 2) := dk_21 5 (dk_at dksX2_signs_5 4 rfl rfl)
theorem dX2_signs_123 : decode cX2_signs 123 = .ok (.istore_n 2, 1) := dk_61 (dk_at dksX2_signs_5 6 rfl rfl)
theorem dX2_signs_124 : decode cX2_signs 124 = .ok (.iload 4, 2) := dk_21 4 (dk_at dksX2_signs_5 7 rfl rfl)
theorem dX2_signs_126 : decode cX2_signs 126 = .ok (.istore_n 3, 1) := dk_62 (dk_at dksX2_signs_5 9 rfl rfl)
theorem dX2_signs_127 : decode cX2_signs 127 = .ok (.iinc 4 1, 3) := dk_132 4 1 (dk_at dksX2_signs_5 10 rfl rfl)
theorem dX2_signs_130 : decode cX2_signs 130 = .ok (.goto (-67), 3) := dk_167 255 189 (dk_at dksX2_signs_5 13 rfl rfl)
theorem dX2_signs_133 : decode cX2_signs 133 = .ok (.iload_n 1, 1) := dk_27 (dk_at dksX2_signs_5 16 rfl rfl)
theorem dX2_signs_134 : decode cX2_signs 134 = .ok (.ifCond .ne 10, 3) := dk_154 0 10 (dk_at dksX2_signs_5 17 rfl rfl)
theorem dX2_signs_137 : decode cX2_signs 137 = .ok (.aload_n 0, 1) := dk_42 (dk_at dksX2_signs_5 20 rfl rfl)
theorem dX2_signs_138 : decode cX2_signs 138 = .ok (.invokevirtual 160, 3) := dk_182 0 160 (dk_at dksX2_signs_5 21 rfl rfl)
theorem dX2_signs_141 : decode cX2_signs 141 = .ok (.goto 13, 3) := dk_167 0 13 (dk_at dksX2_signs_6 0 rfl rfl)
theorem dX2_signs_144 : decode cX2_signs 144 = .ok (.iload_n 1, 1) := dk_27 (dk_at dksX2_signs_6 3 rfl rfl)
theorem dX2_signs_145 : decode cX2_signs 145 = .ok (.iconst 1, 1) := dk_4 (dk_at dksX2_signs_6 4 rfl rfl)
theorem dX2_signs_146 : decode cX2_signs 146 = .ok (.if_icmp .ne 7, 3) := dk_160 0 7 (dk_at dksX2_signs_6 5 rfl rfl)
theorem dX2_signs_149 : decode cX2_signs 149 = .ok (.iload_n 2, 1) := dk_28 (dk_at dksX2_signs_6 8 rfl rfl)
theorem dX2_signs_150 : decode cX2_signs 150 = .ok (.goto 4, 3) := dk_167 0 4 (dk_at dksX2_signs_6 9 rfl rfl)
theorem dX2_signs_153 : decode cX2_signs 153 = .ok (.iload_n 3, 1) := dk_29 (dk_at dksX2_signs_6 12 rfl rfl)
theorem dX2_signs_154 : decode cX2_signs 154 = .ok (.ireturn, 1) := dk_172 (dk_at dksX2_signs_6 13 rfl rfl)
abbrev cX2_signMany : ByteArray := prog_11_method_9_code
def yX2_signMany : MethodName := ⟨RX2, "signMany", "()I"⟩
def dkwX2_signMany_1 : List UInt8 := [167, 0, 4, 3, 96, 60, 132, 2, 1, 167, 255, 227, 27, 172]
abbrev dktX2_signMany_1 : List UInt8 := dkwX2_signMany_1 ++ []
def dkwX2_signMany_0 : List UInt8 := [3, 60, 3, 61, 28, 42, 180, 0, 135, 162, 0, 27, 27, 42, 180, 0, 17, 28, 46, 28, 160, 0, 7, 4]
abbrev dktX2_signMany_0 : List UInt8 := dkwX2_signMany_0 ++ dktX2_signMany_1
theorem dksX2_signMany_0 : cX2_signMany.data.toList.drop 0 = dktX2_signMany_0 := by decide +kernel
theorem dksX2_signMany_1 : cX2_signMany.data.toList.drop 24 = dktX2_signMany_1 := dk_seg dksX2_signMany_0 24 rfl rfl
theorem dX2_signMany_0 : decode cX2_signMany 0 = .ok (.iconst 0, 1) := dk_3 (dk_at dksX2_signMany_0 0 rfl rfl)
theorem dX2_signMany_1 : decode cX2_signMany 1 = .ok (.istore_n 1, 1) := dk_60 (dk_at dksX2_signMany_0 1 rfl rfl)
theorem dX2_signMany_2 : decode cX2_signMany 2 = .ok (.iconst 0, 1) := dk_3 (dk_at dksX2_signMany_0 2 rfl rfl)
theorem dX2_signMany_3 : decode cX2_signMany 3 = .ok (.istore_n 2, 1) := dk_61 (dk_at dksX2_signMany_0 3 rfl rfl)
theorem dX2_signMany_4 : decode cX2_signMany 4 = .ok (.iload_n 2, 1) := dk_28 (dk_at dksX2_signMany_0 4 rfl rfl)
theorem dX2_signMany_5 : decode cX2_signMany 5 = .ok (.aload_n 0, 1) := dk_42 (dk_at dksX2_signMany_0 5 rfl rfl)
theorem dX2_signMany_6 : decode cX2_signMany 6 = .ok (.getfield 135, 3) := dk_180 0 135 (dk_at dksX2_signMany_0 6 rfl rfl)
theorem dX2_signMany_9 : decode cX2_signMany 9 = .ok (.if_icmp .ge 27, 3) := dk_162 0 27 (dk_at dksX2_signMany_0 9 rfl rfl)
theorem dX2_signMany_12 : decode cX2_signMany 12 = .ok (.iload_n 1, 1) := dk_27 (dk_at dksX2_signMany_0 12 rfl rfl)
theorem dX2_signMany_13 : decode cX2_signMany 13 = .ok (.aload_n 0, 1) := dk_42 (dk_at dksX2_signMany_0 13 rfl rfl)
theorem dX2_signMany_14 : decode cX2_signMany 14 = .ok (.getfield 17, 3) := dk_180 0 17 (dk_at dksX2_signMany_0 14 rfl rfl)
theorem dX2_signMany_17 : decode cX2_signMany 17 = .ok (.iload_n 2, 1) := dk_28 (dk_at dksX2_signMany_0 17 rfl rfl)
theorem dX2_signMany_18 : decode cX2_signMany 18 = .ok (.iaload, 1) := dk_46 (dk_at dksX2_signMany_0 18 rfl rfl)
theorem dX2_signMany_19 : decode cX2_signMany 19 = .ok (.iload_n 2, 1) := dk_28 (dk_at dksX2_signMany_0 19 rfl rfl)
theorem dX2_signMany_20 : decode cX2_signMany 20 = .ok (.if_icmp .ne 7, 3) := dk_160 0 7 (dk_at dksX2_signMany_0 20 rfl rfl)
theorem dX2_signMany_23 : decode cX2_signMany 23 = .ok (.iconst 1, 1) := dk_4 (dk_at dksX2_signMany_0 23 rfl rfl)
theorem dX2_signMany_24 : decode cX2_signMany 24 = .ok (.goto 4, 3) := dk_167 0 4 (dk_at dksX2_signMany_1 0 rfl rfl)
theorem dX2_signMany_27 : decode cX2_signMany 27 = .ok (.iconst 0, 1) := dk_3 (dk_at dksX2_signMany_1 3 rfl rfl)
theorem dX2_signMany_28 : decode cX2_signMany 28 = .ok (.iadd, 1) := dk_96 (dk_at dksX2_signMany_1 4 rfl rfl)
theorem dX2_signMany_29 : decode cX2_signMany 29 = .ok (.istore_n 1, 1) := dk_60 (dk_at dksX2_signMany_1 5 rfl rfl)
theorem dX2_signMany_30 : decode cX2_signMany 30 = .ok (.iinc 2 1, 3) := dk_132 2 1 (dk_at dksX2_signMany_1 6 rfl rfl)
theorem dX2_signMany_33 : decode cX2_signMany 33 = .ok (.goto (-29), 3) := dk_167 255 227 (dk_at dksX2_signMany_1 9 rfl rfl)
theorem dX2_signMany_36 : decode cX2_signMany 36 = .ok (.iload_n 1, 1) := dk_27 (dk_at dksX2_signMany_1 12 rfl rfl)
theorem dX2_signMany_37 : decode cX2_signMany 37 = .ok (.ireturn, 1) := dk_172 (dk_at dksX2_signMany_1 13 rfl rfl)
abbrev cX2_drop : ByteArray := prog_11_method_15_code
def yX2_drop : MethodName := ⟨RX2, "drop", "()I"⟩
def dkwX2_drop_1 : List UInt8 := [172]
abbrev dktX2_drop_1 : List UInt8 := dkwX2_drop_1 ++ []
def dkwX2_drop_0 : List UInt8 := [42, 180, 0, 164, 154, 0, 6, 16, 252, 172, 42, 89, 180, 0, 164, 4, 100, 181, 0, 164, 42, 180, 0, 164]
abbrev dktX2_drop_0 : List UInt8 := dkwX2_drop_0 ++ dktX2_drop_1
theorem dksX2_drop_0 : cX2_drop.data.toList.drop 0 = dktX2_drop_0 := by decide +kernel
theorem dksX2_drop_1 : cX2_drop.data.toList.drop 24 = dktX2_drop_1 := dk_seg dksX2_drop_0 24 rfl rfl
theorem dX2_drop_0 : decode cX2_drop 0 = .ok (.aload_n 0, 1) := dk_42 (dk_at dksX2_drop_0 0 rfl rfl)
theorem dX2_drop_1 : decode cX2_drop 1 = .ok (.getfield 164, 3) := dk_180 0 164 (dk_at dksX2_drop_0 1 rfl rfl)
theorem dX2_drop_4 : decode cX2_drop 4 = .ok (.ifCond .ne 6, 3) := dk_154 0 6 (dk_at dksX2_drop_0 4 rfl rfl)
theorem dX2_drop_7 : decode cX2_drop 7 = .ok (.bipush (-4), 2) := dk_16 252 (dk_at dksX2_drop_0 7 rfl rfl)
theorem dX2_drop_9 : decode cX2_drop 9 = .ok (.ireturn, 1) := dk_172 (dk_at dksX2_drop_0 9 rfl rfl)
theorem dX2_drop_10 : decode cX2_drop 10 = .ok (.aload_n 0, 1) := dk_42 (dk_at dksX2_drop_0 10 rfl rfl)
theorem dX2_drop_11 : decode cX2_drop 11 = .ok (.dup, 1) := dk_89 (dk_at dksX2_drop_0 11 rfl rfl)
theorem dX2_drop_12 : decode cX2_drop 12 = .ok (.getfield 164, 3) := dk_180 0 164 (dk_at dksX2_drop_0 12 rfl rfl)
theorem dX2_drop_15 : decode cX2_drop 15 = .ok (.iconst 1, 1) := dk_4 (dk_at dksX2_drop_0 15 rfl rfl)
theorem dX2_drop_16 : decode cX2_drop 16 = .ok (.isub, 1) := dk_100 (dk_at dksX2_drop_0 16 rfl rfl)
theorem dX2_drop_17 : decode cX2_drop 17 = .ok (.putfield 164, 3) := dk_181 0 164 (dk_at dksX2_drop_0 17 rfl rfl)
theorem dX2_drop_20 : decode cX2_drop 20 = .ok (.aload_n 0, 1) := dk_42 (dk_at dksX2_drop_0 20 rfl rfl)
theorem dX2_drop_21 : decode cX2_drop 21 = .ok (.getfield 164, 3) := dk_180 0 164 (dk_at dksX2_drop_0 21 rfl rfl)
theorem dX2_drop_24 : decode cX2_drop 24 = .ok (.ireturn, 1) := dk_172 (dk_at dksX2_drop_1 0 rfl rfl)
abbrev cX2_textOf : ByteArray := prog_11_method_18_code
def yX2_textOf : MethodName := ⟨RX2, "textOf", "(II)I"⟩
def dkwX2_textOf_11 : List UInt8 := [16, 10, 100, 182, 0, 170, 172]
abbrev dktX2_textOf_11 : List UInt8 := dkwX2_textOf_11 ++ []
def dkwX2_textOf_10 : List UInt8 := [42, 180, 0, 20, 27, 46, 172, 29, 172, 21, 4, 172, 21, 5, 172, 21, 6, 172, 21, 7, 172, 42, 27, 28]
abbrev dktX2_textOf_10 : List UInt8 := dkwX2_textOf_10 ++ dktX2_textOf_11
def dkwX2_textOf_9 : List UInt8 := [170, 0, 0, 0, 0, 59, 0, 0, 0, 0, 0, 0, 0, 5, 0, 0, 0, 38, 0, 0, 0, 45, 0, 0, 0, 47, 0, 0, 0, 50, 0, 0, 0, 53, 0, 0, 0, 56]
abbrev dktX2_textOf_9 : List UInt8 := dkwX2_textOf_9 ++ dktX2_textOf_10
def dkwX2_textOf_8 : List UInt8 := [164, 0, 13, 42, 180, 0, 32, 21, 8, 46, 167, 0, 5, 21, 7, 54, 7, 132, 8, 1, 167, 255, 174, 28]
abbrev dktX2_textOf_8 : List UInt8 := dkwX2_textOf_8 ++ dktX2_textOf_9
def dkwX2_textOf_7 : List UInt8 := [3, 96, 54, 6, 42, 180, 0, 35, 21, 8, 51, 153, 0, 25, 42, 180, 0, 32, 21, 8, 46, 21, 7]
abbrev dktX2_textOf_7 : List UInt8 := dkwX2_textOf_7 ++ dktX2_textOf_8
def dkwX2_textOf_6 : List UInt8 := [46, 27, 160, 0, 62, 132, 5, 1, 21, 6, 42, 180, 0, 35, 21, 8, 51, 153, 0, 7, 4, 167, 0, 4]
abbrev dktX2_textOf_6 : List UInt8 := dkwX2_textOf_6 ++ dktX2_textOf_7
def dkwX2_textOf_5 : List UInt8 := [3, 54, 6, 3, 54, 7, 3, 54, 8, 21, 8, 42, 180, 0, 167, 162, 0, 79, 42, 180, 0, 26, 21, 8]
abbrev dktX2_textOf_5 : List UInt8 := dkwX2_textOf_5 ++ dktX2_textOf_6
def dkwX2_textOf_4 : List UInt8 := [182, 0, 170, 2, 160, 0, 7, 4, 167, 0, 4, 3, 96, 54, 4, 132, 5, 1, 167, 255, 203, 3, 54, 5]
abbrev dktX2_textOf_4 : List UInt8 := dkwX2_textOf_4 ++ dktX2_textOf_5
def dkwX2_textOf_3 : List UInt8 := [27, 21, 5, 182, 0, 170, 155, 0, 7, 4, 167, 0, 4, 3, 96, 62, 21, 4, 42, 27, 21, 5]
abbrev dktX2_textOf_3 : List UInt8 := dkwX2_textOf_3 ++ dktX2_textOf_4
def dkwX2_textOf_2 : List UInt8 := [182, 0, 181, 3, 62, 3, 54, 4, 3, 54, 5, 21, 5, 42, 180, 0, 20, 27, 46, 162, 0, 48, 29, 42]
abbrev dktX2_textOf_2 : List UInt8 := dkwX2_textOf_2 ++ dktX2_textOf_3
def dkwX2_textOf_1 : List UInt8 := [20, 0, 179, 16, 9, 42, 180, 0, 20, 27, 46, 96, 133, 184, 0, 138, 154, 0, 6, 16, 246, 172, 42]
abbrev dktX2_textOf_1 : List UInt8 := dkwX2_textOf_1 ++ dktX2_textOf_2
def dkwX2_textOf_0 : List UInt8 := [42, 27, 182, 0, 174, 153, 0, 36, 28, 133, 9, 20, 0, 177, 184, 0, 138, 154, 0, 27, 28, 133]
abbrev dktX2_textOf_0 : List UInt8 := dkwX2_textOf_0 ++ dktX2_textOf_1
theorem dksX2_textOf_0 : cX2_textOf.data.toList.drop 0 = dktX2_textOf_0 := by decide +kernel
theorem dksX2_textOf_1 : cX2_textOf.data.toList.drop 22 = dktX2_textOf_1 := dk_seg dksX2_textOf_0 22 rfl rfl
theorem dksX2_textOf_2 : cX2_textOf.data.toList.drop 45 = dktX2_textOf_2 := dk_seg dksX2_textOf_1 23 rfl rfl
theorem dksX2_textOf_3 : cX2_textOf.data.toList.drop 69 = dktX2_textOf_3 := dk_seg dksX2_textOf_2 24 rfl rfl
theorem dksX2_textOf_4 : cX2_textOf.data.toList.drop 91 = dktX2_textOf_4 := dk_seg dksX2_textOf_3 22 rfl rfl
theorem dksX2_textOf_5 : cX2_textOf.data.toList.drop 115 = dktX2_textOf_5 := dk_seg dksX2_textOf_4 24 rfl rfl
theorem dksX2_textOf_6 : cX2_textOf.data.toList.drop 139 = dktX2_textOf_6 := dk_seg dksX2_textOf_5 24 rfl rfl
theorem dksX2_textOf_7 : cX2_textOf.data.toList.drop 163 = dktX2_textOf_7 := dk_seg dksX2_textOf_6 24 rfl rfl
theorem dksX2_textOf_8 : cX2_textOf.data.toList.drop 186 = dktX2_textOf_8 := dk_seg dksX2_textOf_7 23 rfl rfl
theorem dksX2_textOf_9 : cX2_textOf.data.toList.drop 210 = dktX2_textOf_9 := dk_seg dksX2_textOf_8 24 rfl rfl
theorem dksX2_textOf_10 : cX2_textOf.data.toList.drop 248 = dktX2_textOf_10 := dk_seg dksX2_textOf_9 38 rfl rfl
theorem dksX2_textOf_11 : cX2_textOf.data.toList.drop 272 = dktX2_textOf_11 := dk_seg dksX2_textOf_10 24 rfl rfl
theorem dX2_textOf_0 : decode cX2_textOf 0 = .ok (.aload_n 0, 1) := dk_42 (dk_at dksX2_textOf_0 0 rfl rfl)
theorem dX2_textOf_1 : decode cX2_textOf 1 = .ok (.iload_n 1, 1) := dk_27 (dk_at dksX2_textOf_0 1 rfl rfl)
theorem dX2_textOf_2 : decode cX2_textOf 2 = .ok (.invokevirtual 174, 3) := dk_182 0 174 (dk_at dksX2_textOf_0 2 rfl rfl)
theorem dX2_textOf_5 : decode cX2_textOf 5 = .ok (.ifCond .eq 36, 3) := dk_153 0 36 (dk_at dksX2_textOf_0 5 rfl rfl)
theorem dX2_textOf_8 : decode cX2_textOf 8 = .ok (.iload_n 2, 1) := dk_28 (dk_at dksX2_textOf_0 8 rfl rfl)
theorem dX2_textOf_9 : decode cX2_textOf 9 = .ok (.i2l, 1) := dk_133 (dk_at dksX2_textOf_0 9 rfl rfl)
theorem dX2_textOf_10 : decode cX2_textOf 10 = .ok (.lconst 0, 1) := dk_9 (dk_at dksX2_textOf_0 10 rfl rfl)
theorem dX2_textOf_11 : decode cX2_textOf 11 = .ok (.ldc2_w 177, 3) := dk_20 0 177 (dk_at dksX2_textOf_0 11 rfl rfl)
theorem dX2_textOf_14 : decode cX2_textOf 14 = .ok (.invokestatic 138, 3) := dk_184 0 138 (dk_at dksX2_textOf_0 14 rfl rfl)
theorem dX2_textOf_17 : decode cX2_textOf 17 = .ok (.ifCond .ne 27, 3) := dk_154 0 27 (dk_at dksX2_textOf_0 17 rfl rfl)
theorem dX2_textOf_20 : decode cX2_textOf 20 = .ok (.iload_n 2, 1) := dk_28 (dk_at dksX2_textOf_0 20 rfl rfl)
theorem dX2_textOf_21 : decode cX2_textOf 21 = .ok (.i2l, 1) := dk_133 (dk_at dksX2_textOf_0 21 rfl rfl)
theorem dX2_textOf_22 : decode cX2_textOf 22 = .ok (.ldc2_w 179, 3) := dk_20 0 179 (dk_at dksX2_textOf_1 0 rfl rfl)
theorem dX2_textOf_25 : decode cX2_textOf 25 = .ok (.bipush 9, 2) := dk_16 9 (dk_at dksX2_textOf_1 3 rfl rfl)
theorem dX2_textOf_27 : decode cX2_textOf 27 = .ok (.aload_n 0, 1) := dk_42 (dk_at dksX2_textOf_1 5 rfl rfl)
theorem dX2_textOf_28 : decode cX2_textOf 28 = .ok (.getfield 20, 3) := dk_180 0 20 (dk_at dksX2_textOf_1 6 rfl rfl)
theorem dX2_textOf_31 : decode cX2_textOf 31 = .ok (.iload_n 1, 1) := dk_27 (dk_at dksX2_textOf_1 9 rfl rfl)
theorem dX2_textOf_32 : decode cX2_textOf 32 = .ok (.iaload, 1) := dk_46 (dk_at dksX2_textOf_1 10 rfl rfl)
theorem dX2_textOf_33 : decode cX2_textOf 33 = .ok (.iadd, 1) := dk_96 (dk_at dksX2_textOf_1 11 rfl rfl)
theorem dX2_textOf_34 : decode cX2_textOf 34 = .ok (.i2l, 1) := dk_133 (dk_at dksX2_textOf_1 12 rfl rfl)
theorem dX2_textOf_35 : decode cX2_textOf 35 = .ok (.invokestatic 138, 3) := dk_184 0 138 (dk_at dksX2_textOf_1 13 rfl rfl)
theorem dX2_textOf_38 : decode cX2_textOf 38 = .ok (.ifCond .ne 6, 3) := dk_154 0 6 (dk_at dksX2_textOf_1 16 rfl rfl)
theorem dX2_textOf_41 : decode cX2_textOf 41 = .ok (.bipush (-10), 2) := dk_16 246 (dk_at dksX2_textOf_1 19 rfl rfl)
theorem dX2_textOf_43 : decode cX2_textOf 43 = .ok (.ireturn, 1) := dk_172 (dk_at dksX2_textOf_1 21 rfl rfl)
theorem dX2_textOf_44 : decode cX2_textOf 44 = .ok (.aload_n 0, 1) := dk_42 (dk_at dksX2_textOf_1 22 rfl rfl)
theorem dX2_textOf_45 : decode cX2_textOf 45 = .ok (.invokevirtual 181, 3) := dk_182 0 181 (dk_at dksX2_textOf_2 0 rfl rfl)
theorem dX2_textOf_48 : decode cX2_textOf 48 = .ok (.iconst 0, 1) := dk_3 (dk_at dksX2_textOf_2 3 rfl rfl)
theorem dX2_textOf_49 : decode cX2_textOf 49 = .ok (.istore_n 3, 1) := dk_62 (dk_at dksX2_textOf_2 4 rfl rfl)
theorem dX2_textOf_50 : decode cX2_textOf 50 = .ok (.iconst 0, 1) := dk_3 (dk_at dksX2_textOf_2 5 rfl rfl)
theorem dX2_textOf_51 : decode cX2_textOf 51 = .ok (.istore 4, 2) := dk_54 4 (dk_at dksX2_textOf_2 6 rfl rfl)
theorem dX2_textOf_53 : decode cX2_textOf 53 = .ok (.iconst 0, 1) := dk_3 (dk_at dksX2_textOf_2 8 rfl rfl)
theorem dX2_textOf_54 : decode cX2_textOf 54 = .ok (.istore 5, 2) := dk_54 5 (dk_at dksX2_textOf_2 9 rfl rfl)
theorem dX2_textOf_56 : decode cX2_textOf 56 = .ok (.iload 5, 2) := dk_21 5 (dk_at dksX2_textOf_2 11 rfl rfl)
theorem dX2_textOf_58 : decode cX2_textOf 58 = .ok (.aload_n 0, 1) := dk_42 (dk_at dksX2_textOf_2 13 rfl rfl)
theorem dX2_textOf_59 : decode cX2_textOf 59 = .ok (.getfield 20, 3) := dk_180 0 20 (dk_at dksX2_textOf_2 14 rfl rfl)
theorem dX2_textOf_62 : decode cX2_textOf 62 = .ok (.iload_n 1, 1) := dk_27 (dk_at dksX2_textOf_2 17 rfl rfl)
theorem dX2_textOf_63 : decode cX2_textOf 63 = .ok (.iaload, 1) := dk_46 (dk_at dksX2_textOf_2 18 rfl rfl)
theorem dX2_textOf_64 : decode cX2_textOf 64 = .ok (.if_icmp .ge 48, 3) := dk_162 0 48 (dk_at dksX2_textOf_2 19 rfl rfl)
theorem dX2_textOf_67 : decode cX2_textOf 67 = .ok (.iload_n 3, 1) := dk_29 (dk_at dksX2_textOf_2 22 rfl rfl)
theorem dX2_textOf_68 : decode cX2_textOf 68 = .ok (.aload_n 0, 1) := dk_42 (dk_at dksX2_textOf_2 23 rfl rfl)
theorem dX2_textOf_69 : decode cX2_textOf 69 = .ok (.iload_n 1, 1) := dk_27 (dk_at dksX2_textOf_3 0 rfl rfl)
theorem dX2_textOf_70 : decode cX2_textOf 70 = .ok (.iload 5, 2) := dk_21 5 (dk_at dksX2_textOf_3 1 rfl rfl)
theorem dX2_textOf_72 : decode cX2_textOf 72 = .ok (.invokevirtual 170, 3) := dk_182 0 170 (dk_at dksX2_textOf_3 3 rfl rfl)
theorem dX2_textOf_75 : decode cX2_textOf 75 = .ok (.ifCond .lt 7, 3) := dk_155 0 7 (dk_at dksX2_textOf_3 6 rfl rfl)
theorem dX2_textOf_78 : decode cX2_textOf 78 = .ok (.iconst 1, 1) := dk_4 (dk_at dksX2_textOf_3 9 rfl rfl)
theorem dX2_textOf_79 : decode cX2_textOf 79 = .ok (.goto 4, 3) := dk_167 0 4 (dk_at dksX2_textOf_3 10 rfl rfl)
theorem dX2_textOf_82 : decode cX2_textOf 82 = .ok (.iconst 0, 1) := dk_3 (dk_at dksX2_textOf_3 13 rfl rfl)
theorem dX2_textOf_83 : decode cX2_textOf 83 = .ok (.iadd, 1) := dk_96 (dk_at dksX2_textOf_3 14 rfl rfl)
theorem dX2_textOf_84 : decode cX2_textOf 84 = .ok (.istore_n 3, 1) := dk_62 (dk_at dksX2_textOf_3 15 rfl rfl)
theorem dX2_textOf_85 : decode cX2_textOf 85 = .ok (.iload 4, 2) := dk_21 4 (dk_at dksX2_textOf_3 16 rfl rfl)
theorem dX2_textOf_87 : decode cX2_textOf 87 = .ok (.aload_n 0, 1) := dk_42 (dk_at dksX2_textOf_3 18 rfl rfl)
theorem dX2_textOf_88 : decode cX2_textOf 88 = .ok (.iload_n 1, 1) := dk_27 (dk_at dksX2_textOf_3 19 rfl rfl)
theorem dX2_textOf_89 : decode cX2_textOf 89 = .ok (.iload 5, 2) := dk_21 5 (dk_at dksX2_textOf_3 20 rfl rfl)
theorem dX2_textOf_91 : decode cX2_textOf 91 = .ok (.invokevirtual 170, 3) := dk_182 0 170 (dk_at dksX2_textOf_4 0 rfl rfl)
theorem dX2_textOf_94 : decode cX2_textOf 94 = .ok (.iconst (-1), 1) := dk_2 (dk_at dksX2_textOf_4 3 rfl rfl)
theorem dX2_textOf_95 : decode cX2_textOf 95 = .ok (.if_icmp .ne 7, 3) := dk_160 0 7 (dk_at dksX2_textOf_4 4 rfl rfl)
theorem dX2_textOf_98 : decode cX2_textOf 98 = .ok (.iconst 1, 1) := dk_4 (dk_at dksX2_textOf_4 7 rfl rfl)
theorem dX2_textOf_99 : decode cX2_textOf 99 = .ok (.goto 4, 3) := dk_167 0 4 (dk_at dksX2_textOf_4 8 rfl rfl)
theorem dX2_textOf_102 : decode cX2_textOf 102 = .ok (.iconst 0, 1) := dk_3 (dk_at dksX2_textOf_4 11 rfl rfl)
theorem dX2_textOf_103 : decode cX2_textOf 103 = .ok (.iadd, 1) := dk_96 (dk_at dksX2_textOf_4 12 rfl rfl)
theorem dX2_textOf_104 : decode cX2_textOf 104 = .ok (.istore 4, 2) := dk_54 4 (dk_at dksX2_textOf_4 13 rfl rfl)
theorem dX2_textOf_106 : decode cX2_textOf 106 = .ok (.iinc 5 1, 3) := dk_132 5 1 (dk_at dksX2_textOf_4 15 rfl rfl)
theorem dX2_textOf_109 : decode cX2_textOf 109 = .ok (.goto (-53), 3) := dk_167 255 203 (dk_at dksX2_textOf_4 18 rfl rfl)
theorem dX2_textOf_112 : decode cX2_textOf 112 = .ok (.iconst 0, 1) := dk_3 (dk_at dksX2_textOf_4 21 rfl rfl)
theorem dX2_textOf_113 : decode cX2_textOf 113 = .ok (.istore 5, 2) := dk_54 5 (dk_at dksX2_textOf_4 22 rfl rfl)
theorem dX2_textOf_115 : decode cX2_textOf 115 = .ok (.iconst 0, 1) := dk_3 (dk_at dksX2_textOf_5 0 rfl rfl)
theorem dX2_textOf_116 : decode cX2_textOf 116 = .ok (.istore 6, 2) := dk_54 6 (dk_at dksX2_textOf_5 1 rfl rfl)
theorem dX2_textOf_118 : decode cX2_textOf 118 = .ok (.iconst 0, 1) := dk_3 (dk_at dksX2_textOf_5 3 rfl rfl)
theorem dX2_textOf_119 : decode cX2_textOf 119 = .ok (.istore 7, 2) := dk_54 7 (dk_at dksX2_textOf_5 4 rfl rfl)
theorem dX2_textOf_121 : decode cX2_textOf 121 = .ok (.iconst 0, 1) := dk_3 (dk_at dksX2_textOf_5 6 rfl rfl)
theorem dX2_textOf_122 : decode cX2_textOf 122 = .ok (.istore 8, 2) := dk_54 8 (dk_at dksX2_textOf_5 7 rfl rfl)
theorem dX2_textOf_124 : decode cX2_textOf 124 = .ok (.iload 8, 2) := dk_21 8 (dk_at dksX2_textOf_5 9 rfl rfl)
theorem dX2_textOf_126 : decode cX2_textOf 126 = .ok (.aload_n 0, 1) := dk_42 (dk_at dksX2_textOf_5 11 rfl rfl)
theorem dX2_textOf_127 : decode cX2_textOf 127 = .ok (.getfield 167, 3) := dk_180 0 167 (dk_at dksX2_textOf_5 12 rfl rfl)
theorem dX2_textOf_130 : decode cX2_textOf 130 = .ok (.if_icmp .ge 79, 3) := dk_162 0 79 (dk_at dksX2_textOf_5 15 rfl rfl)
theorem dX2_textOf_133 : decode cX2_textOf 133 = .ok (.aload_n 0, 1) := dk_42 (dk_at dksX2_textOf_5 18 rfl rfl)
theorem dX2_textOf_134 : decode cX2_textOf 134 = .ok (.getfield 26, 3) := dk_180 0 26 (dk_at dksX2_textOf_5 19 rfl rfl)
theorem dX2_textOf_137 : decode cX2_textOf 137 = .ok (.iload 8, 2) := dk_21 8 (dk_at dksX2_textOf_5 22 rfl rfl)
theorem dX2_textOf_139 : decode cX2_textOf 139 = .ok (.iaload, 1) := dk_46 (dk_at dksX2_textOf_6 0 rfl rfl)
theorem dX2_textOf_140 : decode cX2_textOf 140 = .ok (.iload_n 1, 1) := dk_27 (dk_at dksX2_textOf_6 1 rfl rfl)
theorem dX2_textOf_141 : decode cX2_textOf 141 = .ok (.if_icmp .ne 62, 3) := dk_160 0 62 (dk_at dksX2_textOf_6 2 rfl rfl)
theorem dX2_textOf_144 : decode cX2_textOf 144 = .ok (.iinc 5 1, 3) := dk_132 5 1 (dk_at dksX2_textOf_6 5 rfl rfl)
theorem dX2_textOf_147 : decode cX2_textOf 147 = .ok (.iload 6, 2) := dk_21 6 (dk_at dksX2_textOf_6 8 rfl rfl)
theorem dX2_textOf_149 : decode cX2_textOf 149 = .ok (.aload_n 0, 1) := dk_42 (dk_at dksX2_textOf_6 10 rfl rfl)
theorem dX2_textOf_150 : decode cX2_textOf 150 = .ok (.getfield 35, 3) := dk_180 0 35 (dk_at dksX2_textOf_6 11 rfl rfl)
theorem dX2_textOf_153 : decode cX2_textOf 153 = .ok (.iload 8, 2) := dk_21 8 (dk_at dksX2_textOf_6 14 rfl rfl)
theorem dX2_textOf_155 : decode cX2_textOf 155 = .ok (.baload, 1) := dk_51 (dk_at dksX2_textOf_6 16 rfl rfl)
theorem dX2_textOf_156 : decode cX2_textOf 156 = .ok (.ifCond .eq 7, 3) := dk_153 0 7 (dk_at dksX2_textOf_6 17 rfl rfl)
theorem dX2_textOf_159 : decode cX2_textOf 159 = .ok (.iconst 1, 1) := dk_4 (dk_at dksX2_textOf_6 20 rfl rfl)
theorem dX2_textOf_160 : decode cX2_textOf 160 = .ok (.goto 4, 3) := dk_167 0 4 (dk_at dksX2_textOf_6 21 rfl rfl)
theorem dX2_textOf_163 : decode cX2_textOf 163 = .ok (.iconst 0, 1) := dk_3 (dk_at dksX2_textOf_7 0 rfl rfl)
theorem dX2_textOf_164 : decode cX2_textOf 164 = .ok (.iadd, 1) := dk_96 (dk_at dksX2_textOf_7 1 rfl rfl)
theorem dX2_textOf_165 : decode cX2_textOf 165 = .ok (.istore 6, 2) := dk_54 6 (dk_at dksX2_textOf_7 2 rfl rfl)
theorem dX2_textOf_167 : decode cX2_textOf 167 = .ok (.aload_n 0, 1) := dk_42 (dk_at dksX2_textOf_7 4 rfl rfl)
theorem dX2_textOf_168 : decode cX2_textOf 168 = .ok (.getfield 35, 3) := dk_180 0 35 (dk_at dksX2_textOf_7 5 rfl rfl)
theorem dX2_textOf_171 : decode cX2_textOf 171 = .ok (.iload 8, 2) := dk_21 8 (dk_at dksX2_textOf_7 8 rfl rfl)
theorem dX2_textOf_173 : decode cX2_textOf 173 = .ok (.baload, 1) := dk_51 (dk_at dksX2_textOf_7 10 rfl rfl)
theorem dX2_textOf_174 : decode cX2_textOf 174 = .ok (.ifCond .eq 25, 3) := dk_153 0 25 (dk_at dksX2_textOf_7 11 rfl rfl)
theorem dX2_textOf_177 : decode cX2_textOf 177 = .ok (.aload_n 0, 1) := dk_42 (dk_at dksX2_textOf_7 14 rfl rfl)
theorem dX2_textOf_178 : decode cX2_textOf 178 = .ok (.getfield 32, 3) := dk_180 0 32 (dk_at dksX2_textOf_7 15 rfl rfl)
theorem dX2_textOf_181 : decode cX2_textOf 181 = .ok (.iload 8, 2) := dk_21 8 (dk_at dksX2_textOf_7 18 rfl rfl)
theorem dX2_textOf_183 : decode cX2_textOf 183 = .ok (.iaload, 1) := dk_46 (dk_at dksX2_textOf_7 20 rfl rfl)
theorem dX2_textOf_184 : decode cX2_textOf 184 = .ok (.iload 7, 2) := dk_21 7 (dk_at dksX2_textOf_7 21 rfl rfl)
theorem dX2_textOf_186 : decode cX2_textOf 186 = .ok (.if_icmp .le 13, 3) := dk_164 0 13 (dk_at dksX2_textOf_8 0 rfl rfl)
theorem dX2_textOf_189 : decode cX2_textOf 189 = .ok (.aload_n 0, 1) := dk_42 (dk_at dksX2_textOf_8 3 rfl rfl)
theorem dX2_textOf_190 : decode cX2_textOf 190 = .ok (.getfield 32, 3) := dk_180 0 32 (dk_at dksX2_textOf_8 4 rfl rfl)
theorem dX2_textOf_193 : decode cX2_textOf 193 = .ok (.iload 8, 2) := dk_21 8 (dk_at dksX2_textOf_8 7 rfl rfl)
theorem dX2_textOf_195 : decode cX2_textOf 195 = .ok (.iaload, 1) := dk_46 (dk_at dksX2_textOf_8 9 rfl rfl)
theorem dX2_textOf_196 : decode cX2_textOf 196 = .ok (.goto 5, 3) := dk_167 0 5 (dk_at dksX2_textOf_8 10 rfl rfl)
theorem dX2_textOf_199 : decode cX2_textOf 199 = .ok (.iload 7, 2) := dk_21 7 (dk_at dksX2_textOf_8 13 rfl rfl)
theorem dX2_textOf_201 : decode cX2_textOf 201 = .ok (.istore 7, 2) := dk_54 7 (dk_at dksX2_textOf_8 15 rfl rfl)
theorem dX2_textOf_203 : decode cX2_textOf 203 = .ok (.iinc 8 1, 3) := dk_132 8 1 (dk_at dksX2_textOf_8 17 rfl rfl)
theorem dX2_textOf_206 : decode cX2_textOf 206 = .ok (.goto (-82), 3) := dk_167 255 174 (dk_at dksX2_textOf_8 20 rfl rfl)
theorem dX2_textOf_209 : decode cX2_textOf 209 = .ok (.iload_n 2, 1) := dk_28 (dk_at dksX2_textOf_8 23 rfl rfl)
theorem dX2_textOf_210 : decode cX2_textOf 210 = .ok (.tableswitch 59 0 5 #[38, 45, 47, 50, 53, 56], 38) := by decide +kernel
theorem dX2_textOf_248 : decode cX2_textOf 248 = .ok (.aload_n 0, 1) := dk_42 (dk_at dksX2_textOf_10 0 rfl rfl)
theorem dX2_textOf_249 : decode cX2_textOf 249 = .ok (.getfield 20, 3) := dk_180 0 20 (dk_at dksX2_textOf_10 1 rfl rfl)
theorem dX2_textOf_252 : decode cX2_textOf 252 = .ok (.iload_n 1, 1) := dk_27 (dk_at dksX2_textOf_10 4 rfl rfl)
theorem dX2_textOf_253 : decode cX2_textOf 253 = .ok (.iaload, 1) := dk_46 (dk_at dksX2_textOf_10 5 rfl rfl)
theorem dX2_textOf_254 : decode cX2_textOf 254 = .ok (.ireturn, 1) := dk_172 (dk_at dksX2_textOf_10 6 rfl rfl)
theorem dX2_textOf_255 : decode cX2_textOf 255 = .ok (.iload_n 3, 1) := dk_29 (dk_at dksX2_textOf_10 7 rfl rfl)
theorem dX2_textOf_256 : decode cX2_textOf 256 = .ok (.ireturn, 1) := dk_172 (dk_at dksX2_textOf_10 8 rfl rfl)
theorem dX2_textOf_257 : decode cX2_textOf 257 = .ok (.iload 4, 2) := dk_21 4 (dk_at dksX2_textOf_10 9 rfl rfl)
theorem dX2_textOf_259 : decode cX2_textOf 259 = .ok (.ireturn, 1) := dk_172 (dk_at dksX2_textOf_10 11 rfl rfl)
theorem dX2_textOf_260 : decode cX2_textOf 260 = .ok (.iload 5, 2) := dk_21 5 (dk_at dksX2_textOf_10 12 rfl rfl)
theorem dX2_textOf_262 : decode cX2_textOf 262 = .ok (.ireturn, 1) := dk_172 (dk_at dksX2_textOf_10 14 rfl rfl)
theorem dX2_textOf_263 : decode cX2_textOf 263 = .ok (.iload 6, 2) := dk_21 6 (dk_at dksX2_textOf_10 15 rfl rfl)
theorem dX2_textOf_265 : decode cX2_textOf 265 = .ok (.ireturn, 1) := dk_172 (dk_at dksX2_textOf_10 17 rfl rfl)
theorem dX2_textOf_266 : decode cX2_textOf 266 = .ok (.iload 7, 2) := dk_21 7 (dk_at dksX2_textOf_10 18 rfl rfl)
theorem dX2_textOf_268 : decode cX2_textOf 268 = .ok (.ireturn, 1) := dk_172 (dk_at dksX2_textOf_10 20 rfl rfl)
theorem dX2_textOf_269 : decode cX2_textOf 269 = .ok (.aload_n 0, 1) := dk_42 (dk_at dksX2_textOf_10 21 rfl rfl)
theorem dX2_textOf_270 : decode cX2_textOf 270 = .ok (.iload_n 1, 1) := dk_27 (dk_at dksX2_textOf_10 22 rfl rfl)
theorem dX2_textOf_271 : decode cX2_textOf 271 = .ok (.iload_n 2, 1) := dk_28 (dk_at dksX2_textOf_10 23 rfl rfl)
theorem dX2_textOf_272 : decode cX2_textOf 272 = .ok (.bipush 10, 2) := dk_16 10 (dk_at dksX2_textOf_11 0 rfl rfl)
theorem dX2_textOf_274 : decode cX2_textOf 274 = .ok (.isub, 1) := dk_100 (dk_at dksX2_textOf_11 2 rfl rfl)
theorem dX2_textOf_275 : decode cX2_textOf 275 = .ok (.invokevirtual 170, 3) := dk_182 0 170 (dk_at dksX2_textOf_11 3 rfl rfl)
theorem dX2_textOf_278 : decode cX2_textOf 278 = .ok (.ireturn, 1) := dk_172 (dk_at dksX2_textOf_11 6 rfl rfl)
abbrev cX2_isText : ByteArray := prog_11_method_13_code
def yX2_isText : MethodName := ⟨RX2, "isText", "(I)Z"⟩
def dkwX2_isText_0 : List UInt8 := [27, 133, 9, 42, 180, 0, 164, 4, 100, 133, 184, 0, 138, 172]
abbrev dktX2_isText_0 : List UInt8 := dkwX2_isText_0 ++ []
theorem dksX2_isText_0 : cX2_isText.data.toList.drop 0 = dktX2_isText_0 := by decide +kernel
theorem dX2_isText_0 : decode cX2_isText 0 = .ok (.iload_n 1, 1) := dk_27 (dk_at dksX2_isText_0 0 rfl rfl)
theorem dX2_isText_1 : decode cX2_isText 1 = .ok (.i2l, 1) := dk_133 (dk_at dksX2_isText_0 1 rfl rfl)
theorem dX2_isText_2 : decode cX2_isText 2 = .ok (.lconst 0, 1) := dk_9 (dk_at dksX2_isText_0 2 rfl rfl)
theorem dX2_isText_3 : decode cX2_isText 3 = .ok (.aload_n 0, 1) := dk_42 (dk_at dksX2_isText_0 3 rfl rfl)
theorem dX2_isText_4 : decode cX2_isText 4 = .ok (.getfield 164, 3) := dk_180 0 164 (dk_at dksX2_isText_0 4 rfl rfl)
theorem dX2_isText_7 : decode cX2_isText 7 = .ok (.iconst 1, 1) := dk_4 (dk_at dksX2_isText_0 7 rfl rfl)
theorem dX2_isText_8 : decode cX2_isText 8 = .ok (.isub, 1) := dk_100 (dk_at dksX2_isText_0 8 rfl rfl)
theorem dX2_isText_9 : decode cX2_isText 9 = .ok (.i2l, 1) := dk_133 (dk_at dksX2_isText_0 9 rfl rfl)
theorem dX2_isText_10 : decode cX2_isText 10 = .ok (.invokestatic 138, 3) := dk_184 0 138 (dk_at dksX2_isText_0 10 rfl rfl)
theorem dX2_isText_13 : decode cX2_isText 13 = .ok (.ireturn, 1) := dk_172 (dk_at dksX2_isText_0 13 rfl rfl)
abbrev cX2_findWords : ByteArray := prog_11_method_16_code
def yX2_findWords : MethodName := ⟨RX2, "findWords", "()V"⟩
def dkwX2_findWords_7 : List UInt8 := [167, 255, 107, 177]
abbrev dktX2_findWords_7 : List UInt8 := dkwX2_findWords_7 ++ []
def dkwX2_findWords_6 : List UInt8 := [153, 0, 13, 21, 5, 2, 159, 0, 7, 4, 167, 0, 4, 3, 62, 132, 4, 1, 167, 255, 128, 132, 1, 1]
abbrev dktX2_findWords_6 : List UInt8 := dkwX2_findWords_6 ++ dktX2_findWords_7
def dkwX2_findWords_5 : List UInt8 := [180, 0, 167, 29, 84, 42, 89, 180, 0, 167, 4, 96, 181, 0, 167, 21, 4, 4, 96, 61, 4, 62, 29]
abbrev dktX2_findWords_5 : List UInt8 := dkwX2_findWords_5 ++ dktX2_findWords_6
def dkwX2_findWords_4 : List UInt8 := [180, 0, 167, 28, 79, 42, 180, 0, 32, 42, 180, 0, 167, 21, 4, 28, 100, 79, 42, 180, 0, 35, 42]
abbrev dktX2_findWords_4 : List UInt8 := dkwX2_findWords_4 ++ dktX2_findWords_5
def dkwX2_findWords_3 : List UInt8 := [160, 0, 69, 21, 4, 28, 164, 0, 56, 42, 180, 0, 26, 42, 180, 0, 167, 27, 79, 42, 180, 0, 29, 42]
abbrev dktX2_findWords_3 : List UInt8 := dkwX2_findWords_3 ++ dktX2_findWords_4
def dkwX2_findWords_2 : List UInt8 := [46, 162, 0, 13, 42, 27, 21, 4, 182, 0, 170, 167, 0, 5, 16, 254, 54, 5, 21, 5, 16, 254]
abbrev dktX2_findWords_2 : List UInt8 := dkwX2_findWords_2 ++ dktX2_findWords_3
def dkwX2_findWords_1 : List UInt8 := [61, 4, 62, 3, 54, 4, 21, 4, 42, 180, 0, 20, 27, 46, 163, 0, 123, 21, 4, 42, 180, 0, 20, 27]
abbrev dktX2_findWords_1 : List UInt8 := dkwX2_findWords_1 ++ dktX2_findWords_2
def dkwX2_findWords_0 : List UInt8 := [42, 42, 180, 0, 13, 182, 0, 150, 42, 3, 181, 0, 167, 3, 60, 27, 42, 180, 0, 164, 162, 0, 147, 3]
abbrev dktX2_findWords_0 : List UInt8 := dkwX2_findWords_0 ++ dktX2_findWords_1
theorem dksX2_findWords_0 : cX2_findWords.data.toList.drop 0 = dktX2_findWords_0 := by decide +kernel
theorem dksX2_findWords_1 : cX2_findWords.data.toList.drop 24 = dktX2_findWords_1 := dk_seg dksX2_findWords_0 24 rfl rfl
theorem dksX2_findWords_2 : cX2_findWords.data.toList.drop 48 = dktX2_findWords_2 := dk_seg dksX2_findWords_1 24 rfl rfl
theorem dksX2_findWords_3 : cX2_findWords.data.toList.drop 70 = dktX2_findWords_3 := dk_seg dksX2_findWords_2 22 rfl rfl
theorem dksX2_findWords_4 : cX2_findWords.data.toList.drop 94 = dktX2_findWords_4 := dk_seg dksX2_findWords_3 24 rfl rfl
theorem dksX2_findWords_5 : cX2_findWords.data.toList.drop 117 = dktX2_findWords_5 := dk_seg dksX2_findWords_4 23 rfl rfl
theorem dksX2_findWords_6 : cX2_findWords.data.toList.drop 140 = dktX2_findWords_6 := dk_seg dksX2_findWords_5 23 rfl rfl
theorem dksX2_findWords_7 : cX2_findWords.data.toList.drop 164 = dktX2_findWords_7 := dk_seg dksX2_findWords_6 24 rfl rfl
theorem dX2_findWords_0 : decode cX2_findWords 0 = .ok (.aload_n 0, 1) := dk_42 (dk_at dksX2_findWords_0 0 rfl rfl)
theorem dX2_findWords_1 : decode cX2_findWords 1 = .ok (.aload_n 0, 1) := dk_42 (dk_at dksX2_findWords_0 1 rfl rfl)
theorem dX2_findWords_2 : decode cX2_findWords 2 = .ok (.getfield 13, 3) := dk_180 0 13 (dk_at dksX2_findWords_0 2 rfl rfl)
theorem dX2_findWords_5 : decode cX2_findWords 5 = .ok (.invokevirtual 150, 3) := dk_182 0 150 (dk_at dksX2_findWords_0 5 rfl rfl)
theorem dX2_findWords_8 : decode cX2_findWords 8 = .ok (.aload_n 0, 1) := dk_42 (dk_at dksX2_findWords_0 8 rfl rfl)
theorem dX2_findWords_9 : decode cX2_findWords 9 = .ok (.iconst 0, 1) := dk_3 (dk_at dksX2_findWords_0 9 rfl rfl)
theorem dX2_findWords_10 : decode cX2_findWords 10 = .ok (.putfield 167, 3) := dk_181 0 167 (dk_at dksX2_findWords_0 10 rfl rfl)
theorem dX2_findWords_13 : decode cX2_findWords 13 = .ok (.iconst 0, 1) := dk_3 (dk_at dksX2_findWords_0 13 rfl rfl)
theorem dX2_findWords_14 : decode cX2_findWords 14 = .ok (.istore_n 1, 1) := dk_60 (dk_at dksX2_findWords_0 14 rfl rfl)
theorem dX2_findWords_15 : decode cX2_findWords 15 = .ok (.iload_n 1, 1) := dk_27 (dk_at dksX2_findWords_0 15 rfl rfl)
theorem dX2_findWords_16 : decode cX2_findWords 16 = .ok (.aload_n 0, 1) := dk_42 (dk_at dksX2_findWords_0 16 rfl rfl)
theorem dX2_findWords_17 : decode cX2_findWords 17 = .ok (.getfield 164, 3) := dk_180 0 164 (dk_at dksX2_findWords_0 17 rfl rfl)
theorem dX2_findWords_20 : decode cX2_findWords 20 = .ok (.if_icmp .ge 147, 3) := dk_162 0 147 (dk_at dksX2_findWords_0 20 rfl rfl)
theorem dX2_findWords_23 : decode cX2_findWords 23 = .ok (.iconst 0, 1) := dk_3 (dk_at dksX2_findWords_0 23 rfl rfl)
theorem dX2_findWords_24 : decode cX2_findWords 24 = .ok (.istore_n 2, 1) := dk_61 (dk_at dksX2_findWords_1 0 rfl rfl)
theorem dX2_findWords_25 : decode cX2_findWords 25 = .ok (.iconst 1, 1) := dk_4 (dk_at dksX2_findWords_1 1 rfl rfl)
theorem dX2_findWords_26 : decode cX2_findWords 26 = .ok (.istore_n 3, 1) := dk_62 (dk_at dksX2_findWords_1 2 rfl rfl)
theorem dX2_findWords_27 : decode cX2_findWords 27 = .ok (.iconst 0, 1) := dk_3 (dk_at dksX2_findWords_1 3 rfl rfl)
theorem dX2_findWords_28 : decode cX2_findWords 28 = .ok (.istore 4, 2) := dk_54 4 (dk_at dksX2_findWords_1 4 rfl rfl)
theorem dX2_findWords_30 : decode cX2_findWords 30 = .ok (.iload 4, 2) := dk_21 4 (dk_at dksX2_findWords_1 6 rfl rfl)
theorem dX2_findWords_32 : decode cX2_findWords 32 = .ok (.aload_n 0, 1) := dk_42 (dk_at dksX2_findWords_1 8 rfl rfl)
theorem dX2_findWords_33 : decode cX2_findWords 33 = .ok (.getfield 20, 3) := dk_180 0 20 (dk_at dksX2_findWords_1 9 rfl rfl)
theorem dX2_findWords_36 : decode cX2_findWords 36 = .ok (.iload_n 1, 1) := dk_27 (dk_at dksX2_findWords_1 12 rfl rfl)
theorem dX2_findWords_37 : decode cX2_findWords 37 = .ok (.iaload, 1) := dk_46 (dk_at dksX2_findWords_1 13 rfl rfl)
theorem dX2_findWords_38 : decode cX2_findWords 38 = .ok (.if_icmp .gt 123, 3) := dk_163 0 123 (dk_at dksX2_findWords_1 14 rfl rfl)
theorem dX2_findWords_41 : decode cX2_findWords 41 = .ok (.iload 4, 2) := dk_21 4 (dk_at dksX2_findWords_1 17 rfl rfl)
theorem dX2_findWords_43 : decode cX2_findWords 43 = .ok (.aload_n 0, 1) := dk_42 (dk_at dksX2_findWords_1 19 rfl rfl)
theorem dX2_findWords_44 : decode cX2_findWords 44 = .ok (.getfield 20, 3) := dk_180 0 20 (dk_at dksX2_findWords_1 20 rfl rfl)
theorem dX2_findWords_47 : decode cX2_findWords 47 = .ok (.iload_n 1, 1) := dk_27 (dk_at dksX2_findWords_1 23 rfl rfl)
theorem dX2_findWords_48 : decode cX2_findWords 48 = .ok (.iaload, 1) := dk_46 (dk_at dksX2_findWords_2 0 rfl rfl)
theorem dX2_findWords_49 : decode cX2_findWords 49 = .ok (.if_icmp .ge 13, 3) := dk_162 0 13 (dk_at dksX2_findWords_2 1 rfl rfl)
theorem dX2_findWords_52 : decode cX2_findWords 52 = .ok (.aload_n 0, 1) := dk_42 (dk_at dksX2_findWords_2 4 rfl rfl)
theorem dX2_findWords_53 : decode cX2_findWords 53 = .ok (.iload_n 1, 1) := dk_27 (dk_at dksX2_findWords_2 5 rfl rfl)
theorem dX2_findWords_54 : decode cX2_findWords 54 = .ok (.iload 4, 2) := dk_21 4 (dk_at dksX2_findWords_2 6 rfl rfl)
theorem dX2_findWords_56 : decode cX2_findWords 56 = .ok (.invokevirtual 170, 3) := dk_182 0 170 (dk_at dksX2_findWords_2 8 rfl rfl)
theorem dX2_findWords_59 : decode cX2_findWords 59 = .ok (.goto 5, 3) := dk_167 0 5 (dk_at dksX2_findWords_2 11 rfl rfl)
theorem dX2_findWords_62 : decode cX2_findWords 62 = .ok (.bipush (-2), 2) := dk_16 254 (dk_at dksX2_findWords_2 14 rfl rfl)
theorem dX2_findWords_64 : decode cX2_findWords 64 = .ok (.istore 5, 2) := dk_54 5 (dk_at dksX2_findWords_2 16 rfl rfl)
theorem dX2_findWords_66 : decode cX2_findWords 66 = .ok (.iload 5, 2) := dk_21 5 (dk_at dksX2_findWords_2 18 rfl rfl)
theorem dX2_findWords_68 : decode cX2_findWords 68 = .ok (.bipush (-2), 2) := dk_16 254 (dk_at dksX2_findWords_2 20 rfl rfl)
theorem dX2_findWords_70 : decode cX2_findWords 70 = .ok (.if_icmp .ne 69, 3) := dk_160 0 69 (dk_at dksX2_findWords_3 0 rfl rfl)
theorem dX2_findWords_73 : decode cX2_findWords 73 = .ok (.iload 4, 2) := dk_21 4 (dk_at dksX2_findWords_3 3 rfl rfl)
theorem dX2_findWords_75 : decode cX2_findWords 75 = .ok (.iload_n 2, 1) := dk_28 (dk_at dksX2_findWords_3 5 rfl rfl)
theorem dX2_findWords_76 : decode cX2_findWords 76 = .ok (.if_icmp .le 56, 3) := dk_164 0 56 (dk_at dksX2_findWords_3 6 rfl rfl)
theorem dX2_findWords_79 : decode cX2_findWords 79 = .ok (.aload_n 0, 1) := dk_42 (dk_at dksX2_findWords_3 9 rfl rfl)
theorem dX2_findWords_80 : decode cX2_findWords 80 = .ok (.getfield 26, 3) := dk_180 0 26 (dk_at dksX2_findWords_3 10 rfl rfl)
theorem dX2_findWords_83 : decode cX2_findWords 83 = .ok (.aload_n 0, 1) := dk_42 (dk_at dksX2_findWords_3 13 rfl rfl)
theorem dX2_findWords_84 : decode cX2_findWords 84 = .ok (.getfield 167, 3) := dk_180 0 167 (dk_at dksX2_findWords_3 14 rfl rfl)
theorem dX2_findWords_87 : decode cX2_findWords 87 = .ok (.iload_n 1, 1) := dk_27 (dk_at dksX2_findWords_3 17 rfl rfl)
theorem dX2_findWords_88 : decode cX2_findWords 88 = .ok (.iastore, 1) := dk_79 (dk_at dksX2_findWords_3 18 rfl rfl)
theorem dX2_findWords_89 : decode cX2_findWords 89 = .ok (.aload_n 0, 1) := dk_42 (dk_at dksX2_findWords_3 19 rfl rfl)
theorem dX2_findWords_90 : decode cX2_findWords 90 = .ok (.getfield 29, 3) := dk_180 0 29 (dk_at dksX2_findWords_3 20 rfl rfl)
theorem dX2_findWords_93 : decode cX2_findWords 93 = .ok (.aload_n 0, 1) := dk_42 (dk_at dksX2_findWords_3 23 rfl rfl)
theorem dX2_findWords_94 : decode cX2_findWords 94 = .ok (.getfield 167, 3) := dk_180 0 167 (dk_at dksX2_findWords_4 0 rfl rfl)
theorem dX2_findWords_97 : decode cX2_findWords 97 = .ok (.iload_n 2, 1) := dk_28 (dk_at dksX2_findWords_4 3 rfl rfl)
theorem dX2_findWords_98 : decode cX2_findWords 98 = .ok (.iastore, 1) := dk_79 (dk_at dksX2_findWords_4 4 rfl rfl)
theorem dX2_findWords_99 : decode cX2_findWords 99 = .ok (.aload_n 0, 1) := dk_42 (dk_at dksX2_findWords_4 5 rfl rfl)
theorem dX2_findWords_100 : decode cX2_findWords 100 = .ok (.getfield 32, 3) := dk_180 0 32 (dk_at dksX2_findWords_4 6 rfl rfl)
theorem dX2_findWords_103 : decode cX2_findWords 103 = .ok (.aload_n 0, 1) := dk_42 (dk_at dksX2_findWords_4 9 rfl rfl)
theorem dX2_findWords_104 : decode cX2_findWords 104 = .ok (.getfield 167, 3) := dk_180 0 167 (dk_at dksX2_findWords_4 10 rfl rfl)
theorem dX2_findWords_107 : decode cX2_findWords 107 = .ok (.iload 4, 2) := dk_21 4 (dk_at dksX2_findWords_4 13 rfl rfl)
theorem dX2_findWords_109 : decode cX2_findWords 109 = .ok (.iload_n 2, 1) := dk_28 (dk_at dksX2_findWords_4 15 rfl rfl)
theorem dX2_findWords_110 : decode cX2_findWords 110 = .ok (.isub, 1) := dk_100 (dk_at dksX2_findWords_4 16 rfl rfl)
theorem dX2_findWords_111 : decode cX2_findWords 111 = .ok (.iastore, 1) := dk_79 (dk_at dksX2_findWords_4 17 rfl rfl)
theorem dX2_findWords_112 : decode cX2_findWords 112 = .ok (.aload_n 0, 1) := dk_42 (dk_at dksX2_findWords_4 18 rfl rfl)
theorem dX2_findWords_113 : decode cX2_findWords 113 = .ok (.getfield 35, 3) := dk_180 0 35 (dk_at dksX2_findWords_4 19 rfl rfl)
theorem dX2_findWords_116 : decode cX2_findWords 116 = .ok (.aload_n 0, 1) := dk_42 (dk_at dksX2_findWords_4 22 rfl rfl)
theorem dX2_findWords_117 : decode cX2_findWords 117 = .ok (.getfield 167, 3) := dk_180 0 167 (dk_at dksX2_findWords_5 0 rfl rfl)
theorem dX2_findWords_120 : decode cX2_findWords 120 = .ok (.iload_n 3, 1) := dk_29 (dk_at dksX2_findWords_5 3 rfl rfl)
theorem dX2_findWords_121 : decode cX2_findWords 121 = .ok (.bastore, 1) := dk_84 (dk_at dksX2_findWords_5 4 rfl rfl)
theorem dX2_findWords_122 : decode cX2_findWords 122 = .ok (.aload_n 0, 1) := dk_42 (dk_at dksX2_findWords_5 5 rfl rfl)
theorem dX2_findWords_123 : decode cX2_findWords 123 = .ok (.dup, 1) := dk_89 (dk_at dksX2_findWords_5 6 rfl rfl)
theorem dX2_findWords_124 : decode cX2_findWords 124 = .ok (.getfield 167, 3) := dk_180 0 167 (dk_at dksX2_findWords_5 7 rfl rfl)
theorem dX2_findWords_127 : decode cX2_findWords 127 = .ok (.iconst 1, 1) := dk_4 (dk_at dksX2_findWords_5 10 rfl rfl)
theorem dX2_findWords_128 : decode cX2_findWords 128 = .ok (.iadd, 1) := dk_96 (dk_at dksX2_findWords_5 11 rfl rfl)
theorem dX2_findWords_129 : decode cX2_findWords 129 = .ok (.putfield 167, 3) := dk_181 0 167 (dk_at dksX2_findWords_5 12 rfl rfl)
theorem dX2_findWords_132 : decode cX2_findWords 132 = .ok (.iload 4, 2) := dk_21 4 (dk_at dksX2_findWords_5 15 rfl rfl)
theorem dX2_findWords_134 : decode cX2_findWords 134 = .ok (.iconst 1, 1) := dk_4 (dk_at dksX2_findWords_5 17 rfl rfl)
theorem dX2_findWords_135 : decode cX2_findWords 135 = .ok (.iadd, 1) := dk_96 (dk_at dksX2_findWords_5 18 rfl rfl)
theorem dX2_findWords_136 : decode cX2_findWords 136 = .ok (.istore_n 2, 1) := dk_61 (dk_at dksX2_findWords_5 19 rfl rfl)
theorem dX2_findWords_137 : decode cX2_findWords 137 = .ok (.iconst 1, 1) := dk_4 (dk_at dksX2_findWords_5 20 rfl rfl)
theorem dX2_findWords_138 : decode cX2_findWords 138 = .ok (.istore_n 3, 1) := dk_62 (dk_at dksX2_findWords_5 21 rfl rfl)
theorem dX2_findWords_139 : decode cX2_findWords 139 = .ok (.iload_n 3, 1) := dk_29 (dk_at dksX2_findWords_5 22 rfl rfl)
theorem dX2_findWords_140 : decode cX2_findWords 140 = .ok (.ifCond .eq 13, 3) := dk_153 0 13 (dk_at dksX2_findWords_6 0 rfl rfl)
theorem dX2_findWords_143 : decode cX2_findWords 143 = .ok (.iload 5, 2) := dk_21 5 (dk_at dksX2_findWords_6 3 rfl rfl)
theorem dX2_findWords_145 : decode cX2_findWords 145 = .ok (.iconst (-1), 1) := dk_2 (dk_at dksX2_findWords_6 5 rfl rfl)
theorem dX2_findWords_146 : decode cX2_findWords 146 = .ok (.if_icmp .eq 7, 3) := dk_159 0 7 (dk_at dksX2_findWords_6 6 rfl rfl)
theorem dX2_findWords_149 : decode cX2_findWords 149 = .ok (.iconst 1, 1) := dk_4 (dk_at dksX2_findWords_6 9 rfl rfl)
theorem dX2_findWords_150 : decode cX2_findWords 150 = .ok (.goto 4, 3) := dk_167 0 4 (dk_at dksX2_findWords_6 10 rfl rfl)
theorem dX2_findWords_153 : decode cX2_findWords 153 = .ok (.iconst 0, 1) := dk_3 (dk_at dksX2_findWords_6 13 rfl rfl)
theorem dX2_findWords_154 : decode cX2_findWords 154 = .ok (.istore_n 3, 1) := dk_62 (dk_at dksX2_findWords_6 14 rfl rfl)
theorem dX2_findWords_155 : decode cX2_findWords 155 = .ok (.iinc 4 1, 3) := dk_132 4 1 (dk_at dksX2_findWords_6 15 rfl rfl)
theorem dX2_findWords_158 : decode cX2_findWords 158 = .ok (.goto (-128), 3) := dk_167 255 128 (dk_at dksX2_findWords_6 18 rfl rfl)
theorem dX2_findWords_161 : decode cX2_findWords 161 = .ok (.iinc 1 1, 3) := dk_132 1 1 (dk_at dksX2_findWords_6 21 rfl rfl)
theorem dX2_findWords_164 : decode cX2_findWords 164 = .ok (.goto (-149), 3) := dk_167 255 107 (dk_at dksX2_findWords_7 0 rfl rfl)
theorem dX2_findWords_167 : decode cX2_findWords 167 = .ok (.return_, 1) := dk_177 (dk_at dksX2_findWords_7 3 rfl rfl)
abbrev cX2_at : ByteArray := prog_11_method_14_code
def yX2_at : MethodName := ⟨RX2, "at", "(II)I"⟩
def dkwX2_at_1 : List UInt8 := [29, 46, 172]
abbrev dktX2_at_1 : List UInt8 := dkwX2_at_1 ++ []
def dkwX2_at_0 : List UInt8 := [42, 180, 0, 23, 16, 24, 27, 104, 28, 96, 46, 62, 29, 156, 0, 7, 29, 167, 0, 9, 42, 180, 0, 17]
abbrev dktX2_at_0 : List UInt8 := dkwX2_at_0 ++ dktX2_at_1
theorem dksX2_at_0 : cX2_at.data.toList.drop 0 = dktX2_at_0 := by decide +kernel
theorem dksX2_at_1 : cX2_at.data.toList.drop 24 = dktX2_at_1 := dk_seg dksX2_at_0 24 rfl rfl
theorem dX2_at_0 : decode cX2_at 0 = .ok (.aload_n 0, 1) := dk_42 (dk_at dksX2_at_0 0 rfl rfl)
theorem dX2_at_1 : decode cX2_at 1 = .ok (.getfield 23, 3) := dk_180 0 23 (dk_at dksX2_at_0 1 rfl rfl)
theorem dX2_at_4 : decode cX2_at 4 = .ok (.bipush 24, 2) := dk_16 24 (dk_at dksX2_at_0 4 rfl rfl)
theorem dX2_at_6 : decode cX2_at 6 = .ok (.iload_n 1, 1) := dk_27 (dk_at dksX2_at_0 6 rfl rfl)
theorem dX2_at_7 : decode cX2_at 7 = .ok (.imul, 1) := dk_104 (dk_at dksX2_at_0 7 rfl rfl)
theorem dX2_at_8 : decode cX2_at 8 = .ok (.iload_n 2, 1) := dk_28 (dk_at dksX2_at_0 8 rfl rfl)
theorem dX2_at_9 : decode cX2_at 9 = .ok (.iadd, 1) := dk_96 (dk_at dksX2_at_0 9 rfl rfl)
theorem dX2_at_10 : decode cX2_at 10 = .ok (.iaload, 1) := dk_46 (dk_at dksX2_at_0 10 rfl rfl)
theorem dX2_at_11 : decode cX2_at 11 = .ok (.istore_n 3, 1) := dk_62 (dk_at dksX2_at_0 11 rfl rfl)
theorem dX2_at_12 : decode cX2_at 12 = .ok (.iload_n 3, 1) := dk_29 (dk_at dksX2_at_0 12 rfl rfl)
theorem dX2_at_13 : decode cX2_at 13 = .ok (.ifCond .ge 7, 3) := dk_156 0 7 (dk_at dksX2_at_0 13 rfl rfl)
theorem dX2_at_16 : decode cX2_at 16 = .ok (.iload_n 3, 1) := dk_29 (dk_at dksX2_at_0 16 rfl rfl)
theorem dX2_at_17 : decode cX2_at 17 = .ok (.goto 9, 3) := dk_167 0 9 (dk_at dksX2_at_0 17 rfl rfl)
theorem dX2_at_20 : decode cX2_at 20 = .ok (.aload_n 0, 1) := dk_42 (dk_at dksX2_at_0 20 rfl rfl)
theorem dX2_at_21 : decode cX2_at 21 = .ok (.getfield 17, 3) := dk_180 0 17 (dk_at dksX2_at_0 21 rfl rfl)
theorem dX2_at_24 : decode cX2_at 24 = .ok (.iload_n 3, 1) := dk_29 (dk_at dksX2_at_1 0 rfl rfl)
theorem dX2_at_25 : decode cX2_at 25 = .ok (.iaload, 1) := dk_46 (dk_at dksX2_at_1 1 rfl rfl)
theorem dX2_at_26 : decode cX2_at 26 = .ok (.ireturn, 1) := dk_172 (dk_at dksX2_at_1 2 rfl rfl)
abbrev cX2_counted : ByteArray := prog_11_method_21_code
def yX2_counted : MethodName := ⟨RX2, "counted", "(I)I"⟩
def dkwX2_counted_0 : List UInt8 := [42, 27, 182, 0, 184, 153, 0, 11, 42, 27, 182, 0, 187, 167, 0, 4, 2, 172]
abbrev dktX2_counted_0 : List UInt8 := dkwX2_counted_0 ++ []
theorem dksX2_counted_0 : cX2_counted.data.toList.drop 0 = dktX2_counted_0 := by decide +kernel
theorem dX2_counted_0 : decode cX2_counted 0 = .ok (.aload_n 0, 1) := dk_42 (dk_at dksX2_counted_0 0 rfl rfl)
theorem dX2_counted_1 : decode cX2_counted 1 = .ok (.iload_n 1, 1) := dk_27 (dk_at dksX2_counted_0 1 rfl rfl)
theorem dX2_counted_2 : decode cX2_counted 2 = .ok (.invokevirtual 184, 3) := dk_182 0 184 (dk_at dksX2_counted_0 2 rfl rfl)
theorem dX2_counted_5 : decode cX2_counted 5 = .ok (.ifCond .eq 11, 3) := dk_153 0 11 (dk_at dksX2_counted_0 5 rfl rfl)
theorem dX2_counted_8 : decode cX2_counted 8 = .ok (.aload_n 0, 1) := dk_42 (dk_at dksX2_counted_0 8 rfl rfl)
theorem dX2_counted_9 : decode cX2_counted 9 = .ok (.iload_n 1, 1) := dk_27 (dk_at dksX2_counted_0 9 rfl rfl)
theorem dX2_counted_10 : decode cX2_counted 10 = .ok (.invokevirtual 187, 3) := dk_182 0 187 (dk_at dksX2_counted_0 10 rfl rfl)
theorem dX2_counted_13 : decode cX2_counted 13 = .ok (.goto 4, 3) := dk_167 0 4 (dk_at dksX2_counted_0 13 rfl rfl)
theorem dX2_counted_16 : decode cX2_counted 16 = .ok (.iconst (-1), 1) := dk_2 (dk_at dksX2_counted_0 16 rfl rfl)
theorem dX2_counted_17 : decode cX2_counted 17 = .ok (.ireturn, 1) := dk_172 (dk_at dksX2_counted_0 17 rfl rfl)
abbrev cX2_isSign : ByteArray := prog_11_method_12_code
def yX2_isSign : MethodName := ⟨RX2, "isSign", "(I)Z"⟩
def dkwX2_isSign_1 : List UInt8 := [160, 0, 7, 4, 167, 0, 4, 3, 172]
abbrev dktX2_isSign_1 : List UInt8 := dkwX2_isSign_1 ++ []
def dkwX2_isSign_0 : List UInt8 := [42, 42, 180, 0, 13, 182, 0, 150, 42, 27, 182, 0, 154, 153, 0, 17, 42, 180, 0, 17, 27, 46, 27]
abbrev dktX2_isSign_0 : List UInt8 := dkwX2_isSign_0 ++ dktX2_isSign_1
theorem dksX2_isSign_0 : cX2_isSign.data.toList.drop 0 = dktX2_isSign_0 := by decide +kernel
theorem dksX2_isSign_1 : cX2_isSign.data.toList.drop 23 = dktX2_isSign_1 := dk_seg dksX2_isSign_0 23 rfl rfl
theorem dX2_isSign_0 : decode cX2_isSign 0 = .ok (.aload_n 0, 1) := dk_42 (dk_at dksX2_isSign_0 0 rfl rfl)
theorem dX2_isSign_1 : decode cX2_isSign 1 = .ok (.aload_n 0, 1) := dk_42 (dk_at dksX2_isSign_0 1 rfl rfl)
theorem dX2_isSign_2 : decode cX2_isSign 2 = .ok (.getfield 13, 3) := dk_180 0 13 (dk_at dksX2_isSign_0 2 rfl rfl)
theorem dX2_isSign_5 : decode cX2_isSign 5 = .ok (.invokevirtual 150, 3) := dk_182 0 150 (dk_at dksX2_isSign_0 5 rfl rfl)
theorem dX2_isSign_8 : decode cX2_isSign 8 = .ok (.aload_n 0, 1) := dk_42 (dk_at dksX2_isSign_0 8 rfl rfl)
theorem dX2_isSign_9 : decode cX2_isSign 9 = .ok (.iload_n 1, 1) := dk_27 (dk_at dksX2_isSign_0 9 rfl rfl)
theorem dX2_isSign_10 : decode cX2_isSign 10 = .ok (.invokevirtual 154, 3) := dk_182 0 154 (dk_at dksX2_isSign_0 10 rfl rfl)
theorem dX2_isSign_13 : decode cX2_isSign 13 = .ok (.ifCond .eq 17, 3) := dk_153 0 17 (dk_at dksX2_isSign_0 13 rfl rfl)
theorem dX2_isSign_16 : decode cX2_isSign 16 = .ok (.aload_n 0, 1) := dk_42 (dk_at dksX2_isSign_0 16 rfl rfl)
theorem dX2_isSign_17 : decode cX2_isSign 17 = .ok (.getfield 17, 3) := dk_180 0 17 (dk_at dksX2_isSign_0 17 rfl rfl)
theorem dX2_isSign_20 : decode cX2_isSign 20 = .ok (.iload_n 1, 1) := dk_27 (dk_at dksX2_isSign_0 20 rfl rfl)
theorem dX2_isSign_21 : decode cX2_isSign 21 = .ok (.iaload, 1) := dk_46 (dk_at dksX2_isSign_0 21 rfl rfl)
theorem dX2_isSign_22 : decode cX2_isSign 22 = .ok (.iload_n 1, 1) := dk_27 (dk_at dksX2_isSign_0 22 rfl rfl)
theorem dX2_isSign_23 : decode cX2_isSign 23 = .ok (.if_icmp .ne 7, 3) := dk_160 0 7 (dk_at dksX2_isSign_1 0 rfl rfl)
theorem dX2_isSign_26 : decode cX2_isSign 26 = .ok (.iconst 1, 1) := dk_4 (dk_at dksX2_isSign_1 3 rfl rfl)
theorem dX2_isSign_27 : decode cX2_isSign 27 = .ok (.goto 4, 3) := dk_167 0 4 (dk_at dksX2_isSign_1 4 rfl rfl)
theorem dX2_isSign_30 : decode cX2_isSign 30 = .ok (.iconst 0, 1) := dk_3 (dk_at dksX2_isSign_1 7 rfl rfl)
theorem dX2_isSign_31 : decode cX2_isSign 31 = .ok (.ireturn, 1) := dk_172 (dk_at dksX2_isSign_1 8 rfl rfl)
abbrev cX2_countOf : ByteArray := prog_11_method_19_code
def yX2_countOf : MethodName := ⟨RX2, "countOf", "(I)I"⟩
def dkwX2_countOf_2 : List UInt8 := [132, 4, 1, 167, 255, 223, 132, 3, 1, 167, 255, 206, 28, 172]
abbrev dktX2_countOf_2 : List UInt8 := dkwX2_countOf_2 ++ []
def dkwX2_countOf_1 : List UInt8 := [162, 0, 28, 28, 42, 29, 21, 4, 182, 0, 170, 27, 160, 0, 7, 4, 167, 0, 4, 3, 96, 61]
abbrev dktX2_countOf_1 : List UInt8 := dkwX2_countOf_1 ++ dktX2_countOf_2
def dkwX2_countOf_0 : List UInt8 := [3, 61, 3, 62, 29, 42, 180, 0, 164, 162, 0, 48, 3, 54, 4, 21, 4, 42, 180, 0, 20, 29, 46]
abbrev dktX2_countOf_0 : List UInt8 := dkwX2_countOf_0 ++ dktX2_countOf_1
theorem dksX2_countOf_0 : cX2_countOf.data.toList.drop 0 = dktX2_countOf_0 := by decide +kernel
theorem dksX2_countOf_1 : cX2_countOf.data.toList.drop 23 = dktX2_countOf_1 := dk_seg dksX2_countOf_0 23 rfl rfl
theorem dksX2_countOf_2 : cX2_countOf.data.toList.drop 45 = dktX2_countOf_2 := dk_seg dksX2_countOf_1 22 rfl rfl
theorem dX2_countOf_0 : decode cX2_countOf 0 = .ok (.iconst 0, 1) := dk_3 (dk_at dksX2_countOf_0 0 rfl rfl)
theorem dX2_countOf_1 : decode cX2_countOf 1 = .ok (.istore_n 2, 1) := dk_61 (dk_at dksX2_countOf_0 1 rfl rfl)
theorem dX2_countOf_2 : decode cX2_countOf 2 = .ok (.iconst 0, 1) := dk_3 (dk_at dksX2_countOf_0 2 rfl rfl)
theorem dX2_countOf_3 : decode cX2_countOf 3 = .ok (.istore_n 3, 1) := dk_62 (dk_at dksX2_countOf_0 3 rfl rfl)
theorem dX2_countOf_4 : decode cX2_countOf 4 = .ok (.iload_n 3, 1) := dk_29 (dk_at dksX2_countOf_0 4 rfl rfl)
theorem dX2_countOf_5 : decode cX2_countOf 5 = .ok (.aload_n 0, 1) := dk_42 (dk_at dksX2_countOf_0 5 rfl rfl)
theorem dX2_countOf_6 : decode cX2_countOf 6 = .ok (.getfield 164, 3) := dk_180 0 164 (dk_at dksX2_countOf_0 6 rfl rfl)
theorem dX2_countOf_9 : decode cX2_countOf 9 = .ok (.if_icmp .ge 48, 3) := dk_162 0 48 (dk_at dksX2_countOf_0 9 rfl rfl)
theorem dX2_countOf_12 : decode cX2_countOf 12 = .ok (.iconst 0, 1) := dk_3 (dk_at dksX2_countOf_0 12 rfl rfl)
theorem dX2_countOf_13 : decode cX2_countOf 13 = .ok (.istore 4, 2) := dk_54 4 (dk_at dksX2_countOf_0 13 rfl rfl)
theorem dX2_countOf_15 : decode cX2_countOf 15 = .ok (.iload 4, 2) := dk_21 4 (dk_at dksX2_countOf_0 15 rfl rfl)
theorem dX2_countOf_17 : decode cX2_countOf 17 = .ok (.aload_n 0, 1) := dk_42 (dk_at dksX2_countOf_0 17 rfl rfl)
theorem dX2_countOf_18 : decode cX2_countOf 18 = .ok (.getfield 20, 3) := dk_180 0 20 (dk_at dksX2_countOf_0 18 rfl rfl)
theorem dX2_countOf_21 : decode cX2_countOf 21 = .ok (.iload_n 3, 1) := dk_29 (dk_at dksX2_countOf_0 21 rfl rfl)
theorem dX2_countOf_22 : decode cX2_countOf 22 = .ok (.iaload, 1) := dk_46 (dk_at dksX2_countOf_0 22 rfl rfl)
theorem dX2_countOf_23 : decode cX2_countOf 23 = .ok (.if_icmp .ge 28, 3) := dk_162 0 28 (dk_at dksX2_countOf_1 0 rfl rfl)
theorem dX2_countOf_26 : decode cX2_countOf 26 = .ok (.iload_n 2, 1) := dk_28 (dk_at dksX2_countOf_1 3 rfl rfl)
theorem dX2_countOf_27 : decode cX2_countOf 27 = .ok (.aload_n 0, 1) := dk_42 (dk_at dksX2_countOf_1 4 rfl rfl)
theorem dX2_countOf_28 : decode cX2_countOf 28 = .ok (.iload_n 3, 1) := dk_29 (dk_at dksX2_countOf_1 5 rfl rfl)
theorem dX2_countOf_29 : decode cX2_countOf 29 = .ok (.iload 4, 2) := dk_21 4 (dk_at dksX2_countOf_1 6 rfl rfl)
theorem dX2_countOf_31 : decode cX2_countOf 31 = .ok (.invokevirtual 170, 3) := dk_182 0 170 (dk_at dksX2_countOf_1 8 rfl rfl)
theorem dX2_countOf_34 : decode cX2_countOf 34 = .ok (.iload_n 1, 1) := dk_27 (dk_at dksX2_countOf_1 11 rfl rfl)
theorem dX2_countOf_35 : decode cX2_countOf 35 = .ok (.if_icmp .ne 7, 3) := dk_160 0 7 (dk_at dksX2_countOf_1 12 rfl rfl)
theorem dX2_countOf_38 : decode cX2_countOf 38 = .ok (.iconst 1, 1) := dk_4 (dk_at dksX2_countOf_1 15 rfl rfl)
theorem dX2_countOf_39 : decode cX2_countOf 39 = .ok (.goto 4, 3) := dk_167 0 4 (dk_at dksX2_countOf_1 16 rfl rfl)
theorem dX2_countOf_42 : decode cX2_countOf 42 = .ok (.iconst 0, 1) := dk_3 (dk_at dksX2_countOf_1 19 rfl rfl)
theorem dX2_countOf_43 : decode cX2_countOf 43 = .ok (.iadd, 1) := dk_96 (dk_at dksX2_countOf_1 20 rfl rfl)
theorem dX2_countOf_44 : decode cX2_countOf 44 = .ok (.istore_n 2, 1) := dk_61 (dk_at dksX2_countOf_1 21 rfl rfl)
theorem dX2_countOf_45 : decode cX2_countOf 45 = .ok (.iinc 4 1, 3) := dk_132 4 1 (dk_at dksX2_countOf_2 0 rfl rfl)
theorem dX2_countOf_48 : decode cX2_countOf 48 = .ok (.goto (-33), 3) := dk_167 255 223 (dk_at dksX2_countOf_2 3 rfl rfl)
theorem dX2_countOf_51 : decode cX2_countOf 51 = .ok (.iinc 3 1, 3) := dk_132 3 1 (dk_at dksX2_countOf_2 6 rfl rfl)
theorem dX2_countOf_54 : decode cX2_countOf 54 = .ok (.goto (-50), 3) := dk_167 255 206 (dk_at dksX2_countOf_2 9 rfl rfl)
theorem dX2_countOf_57 : decode cX2_countOf 57 = .ok (.iload_n 2, 1) := dk_28 (dk_at dksX2_countOf_2 12 rfl rfl)
theorem dX2_countOf_58 : decode cX2_countOf 58 = .ok (.ireturn, 1) := dk_172 (dk_at dksX2_countOf_2 13 rfl rfl)
abbrev cX2_beside : ByteArray := prog_11_method_23_code
def yX2_beside : MethodName := ⟨RX2, "beside", "(II)I"⟩
def dkwX2_beside_1 : List UInt8 := [167, 0, 4, 2, 172]
abbrev dktX2_beside_1 : List UInt8 := dkwX2_beside_1 ++ []
def dkwX2_beside_0 : List UInt8 := [42, 27, 182, 0, 184, 153, 0, 20, 42, 28, 182, 0, 184, 153, 0, 12, 42, 27, 28, 182, 0, 190]
abbrev dktX2_beside_0 : List UInt8 := dkwX2_beside_0 ++ dktX2_beside_1
theorem dksX2_beside_0 : cX2_beside.data.toList.drop 0 = dktX2_beside_0 := by decide +kernel
theorem dksX2_beside_1 : cX2_beside.data.toList.drop 22 = dktX2_beside_1 := dk_seg dksX2_beside_0 22 rfl rfl
theorem dX2_beside_0 : decode cX2_beside 0 = .ok (.aload_n 0, 1) := dk_42 (dk_at dksX2_beside_0 0 rfl rfl)
theorem dX2_beside_1 : decode cX2_beside 1 = .ok (.iload_n 1, 1) := dk_27 (dk_at dksX2_beside_0 1 rfl rfl)
theorem dX2_beside_2 : decode cX2_beside 2 = .ok (.invokevirtual 184, 3) := dk_182 0 184 (dk_at dksX2_beside_0 2 rfl rfl)
theorem dX2_beside_5 : decode cX2_beside 5 = .ok (.ifCond .eq 20, 3) := dk_153 0 20 (dk_at dksX2_beside_0 5 rfl rfl)
theorem dX2_beside_8 : decode cX2_beside 8 = .ok (.aload_n 0, 1) := dk_42 (dk_at dksX2_beside_0 8 rfl rfl)
theorem dX2_beside_9 : decode cX2_beside 9 = .ok (.iload_n 2, 1) := dk_28 (dk_at dksX2_beside_0 9 rfl rfl)
theorem dX2_beside_10 : decode cX2_beside 10 = .ok (.invokevirtual 184, 3) := dk_182 0 184 (dk_at dksX2_beside_0 10 rfl rfl)
theorem dX2_beside_13 : decode cX2_beside 13 = .ok (.ifCond .eq 12, 3) := dk_153 0 12 (dk_at dksX2_beside_0 13 rfl rfl)
theorem dX2_beside_16 : decode cX2_beside 16 = .ok (.aload_n 0, 1) := dk_42 (dk_at dksX2_beside_0 16 rfl rfl)
theorem dX2_beside_17 : decode cX2_beside 17 = .ok (.iload_n 1, 1) := dk_27 (dk_at dksX2_beside_0 17 rfl rfl)
theorem dX2_beside_18 : decode cX2_beside 18 = .ok (.iload_n 2, 1) := dk_28 (dk_at dksX2_beside_0 18 rfl rfl)
theorem dX2_beside_19 : decode cX2_beside 19 = .ok (.invokevirtual 190, 3) := dk_182 0 190 (dk_at dksX2_beside_0 19 rfl rfl)
theorem dX2_beside_22 : decode cX2_beside 22 = .ok (.goto 4, 3) := dk_167 0 4 (dk_at dksX2_beside_1 0 rfl rfl)
theorem dX2_beside_25 : decode cX2_beside 25 = .ok (.iconst (-1), 1) := dk_2 (dk_at dksX2_beside_1 3 rfl rfl)
theorem dX2_beside_26 : decode cX2_beside 26 = .ok (.ireturn, 1) := dk_172 (dk_at dksX2_beside_1 4 rfl rfl)
abbrev cX2_besides : ByteArray := prog_11_method_22_code
def yX2_besides : MethodName := ⟨RX2, "besides", "(II)I"⟩
def dkwX2_besides_4 : List UInt8 := [132, 4, 1, 167, 255, 167, 29, 172]
abbrev dktX2_besides_4 : List UInt8 := dkwX2_besides_4 ++ []
def dkwX2_besides_3 : List UInt8 := [160, 0, 13, 21, 7, 28, 160, 0, 7, 4, 167, 0, 4, 3, 96, 62, 132, 5, 1, 167, 255, 185]
abbrev dktX2_besides_3 : List UInt8 := dkwX2_besides_3 ++ dktX2_besides_4
def dkwX2_besides_2 : List UInt8 := [182, 0, 170, 54, 7, 29, 21, 6, 155, 0, 28, 21, 7, 155, 0, 23, 27, 155, 0, 15, 21, 6, 27]
abbrev dktX2_besides_2 : List UInt8 := dkwX2_besides_2 ++ dktX2_besides_3
def dkwX2_besides_1 : List UInt8 := [21, 4, 46, 162, 0, 65, 42, 21, 4, 21, 5, 4, 100, 182, 0, 170, 54, 6, 42, 21, 4, 21, 5]
abbrev dktX2_besides_1 : List UInt8 := dkwX2_besides_1 ++ dktX2_besides_2
def dkwX2_besides_0 : List UInt8 := [3, 62, 3, 54, 4, 21, 4, 42, 180, 0, 164, 162, 0, 86, 4, 54, 5, 21, 5, 42, 180, 0, 20]
abbrev dktX2_besides_0 : List UInt8 := dkwX2_besides_0 ++ dktX2_besides_1
theorem dksX2_besides_0 : cX2_besides.data.toList.drop 0 = dktX2_besides_0 := by decide +kernel
theorem dksX2_besides_1 : cX2_besides.data.toList.drop 23 = dktX2_besides_1 := dk_seg dksX2_besides_0 23 rfl rfl
theorem dksX2_besides_2 : cX2_besides.data.toList.drop 46 = dktX2_besides_2 := dk_seg dksX2_besides_1 23 rfl rfl
theorem dksX2_besides_3 : cX2_besides.data.toList.drop 69 = dktX2_besides_3 := dk_seg dksX2_besides_2 23 rfl rfl
theorem dksX2_besides_4 : cX2_besides.data.toList.drop 91 = dktX2_besides_4 := dk_seg dksX2_besides_3 22 rfl rfl
theorem dX2_besides_0 : decode cX2_besides 0 = .ok (.iconst 0, 1) := dk_3 (dk_at dksX2_besides_0 0 rfl rfl)
theorem dX2_besides_1 : decode cX2_besides 1 = .ok (.istore_n 3, 1) := dk_62 (dk_at dksX2_besides_0 1 rfl rfl)
theorem dX2_besides_2 : decode cX2_besides 2 = .ok (.iconst 0, 1) := dk_3 (dk_at dksX2_besides_0 2 rfl rfl)
theorem dX2_besides_3 : decode cX2_besides 3 = .ok (.istore 4, 2) := dk_54 4 (dk_at dksX2_besides_0 3 rfl rfl)
theorem dX2_besides_5 : decode cX2_besides 5 = .ok (.iload 4, 2) := dk_21 4 (dk_at dksX2_besides_0 5 rfl rfl)
theorem dX2_besides_7 : decode cX2_besides 7 = .ok (.aload_n 0, 1) := dk_42 (dk_at dksX2_besides_0 7 rfl rfl)
theorem dX2_besides_8 : decode cX2_besides 8 = .ok (.getfield 164, 3) := dk_180 0 164 (dk_at dksX2_besides_0 8 rfl rfl)
theorem dX2_besides_11 : decode cX2_besides 11 = .ok (.if_icmp .ge 86, 3) := dk_162 0 86 (dk_at dksX2_besides_0 11 rfl rfl)
theorem dX2_besides_14 : decode cX2_besides 14 = .ok (.iconst 1, 1) := dk_4 (dk_at dksX2_besides_0 14 rfl rfl)
theorem dX2_besides_15 : decode cX2_besides 15 = .ok (.istore 5, 2) := dk_54 5 (dk_at dksX2_besides_0 15 rfl rfl)
theorem dX2_besides_17 : decode cX2_besides 17 = .ok (.iload 5, 2) := dk_21 5 (dk_at dksX2_besides_0 17 rfl rfl)
theorem dX2_besides_19 : decode cX2_besides 19 = .ok (.aload_n 0, 1) := dk_42 (dk_at dksX2_besides_0 19 rfl rfl)
theorem dX2_besides_20 : decode cX2_besides 20 = .ok (.getfield 20, 3) := dk_180 0 20 (dk_at dksX2_besides_0 20 rfl rfl)
theorem dX2_besides_23 : decode cX2_besides 23 = .ok (.iload 4, 2) := dk_21 4 (dk_at dksX2_besides_1 0 rfl rfl)
theorem dX2_besides_25 : decode cX2_besides 25 = .ok (.iaload, 1) := dk_46 (dk_at dksX2_besides_1 2 rfl rfl)
theorem dX2_besides_26 : decode cX2_besides 26 = .ok (.if_icmp .ge 65, 3) := dk_162 0 65 (dk_at dksX2_besides_1 3 rfl rfl)
theorem dX2_besides_29 : decode cX2_besides 29 = .ok (.aload_n 0, 1) := dk_42 (dk_at dksX2_besides_1 6 rfl rfl)
theorem dX2_besides_30 : decode cX2_besides 30 = .ok (.iload 4, 2) := dk_21 4 (dk_at dksX2_besides_1 7 rfl rfl)
theorem dX2_besides_32 : decode cX2_besides 32 = .ok (.iload 5, 2) := dk_21 5 (dk_at dksX2_besides_1 9 rfl rfl)
theorem dX2_besides_34 : decode cX2_besides 34 = .ok (.iconst 1, 1) := dk_4 (dk_at dksX2_besides_1 11 rfl rfl)
theorem dX2_besides_35 : decode cX2_besides 35 = .ok (.isub, 1) := dk_100 (dk_at dksX2_besides_1 12 rfl rfl)
theorem dX2_besides_36 : decode cX2_besides 36 = .ok (.invokevirtual 170, 3) := dk_182 0 170 (dk_at dksX2_besides_1 13 rfl rfl)
theorem dX2_besides_39 : decode cX2_besides 39 = .ok (.istore 6, 2) := dk_54 6 (dk_at dksX2_besides_1 16 rfl rfl)
theorem dX2_besides_41 : decode cX2_besides 41 = .ok (.aload_n 0, 1) := dk_42 (dk_at dksX2_besides_1 18 rfl rfl)
theorem dX2_besides_42 : decode cX2_besides 42 = .ok (.iload 4, 2) := dk_21 4 (dk_at dksX2_besides_1 19 rfl rfl)
theorem dX2_besides_44 : decode cX2_besides 44 = .ok (.iload 5, 2) := dk_21 5 (dk_at dksX2_besides_1 21 rfl rfl)
theorem dX2_besides_46 : decode cX2_besides 46 = .ok (.invokevirtual 170, 3) := dk_182 0 170 (dk_at dksX2_besides_2 0 rfl rfl)
theorem dX2_besides_49 : decode cX2_besides 49 = .ok (.istore 7, 2) := dk_54 7 (dk_at dksX2_besides_2 3 rfl rfl)
theorem dX2_besides_51 : decode cX2_besides 51 = .ok (.iload_n 3, 1) := dk_29 (dk_at dksX2_besides_2 5 rfl rfl)
theorem dX2_besides_52 : decode cX2_besides 52 = .ok (.iload 6, 2) := dk_21 6 (dk_at dksX2_besides_2 6 rfl rfl)
theorem dX2_besides_54 : decode cX2_besides 54 = .ok (.ifCond .lt 28, 3) := dk_155 0 28 (dk_at dksX2_besides_2 8 rfl rfl)
theorem dX2_besides_57 : decode cX2_besides 57 = .ok (.iload 7, 2) := dk_21 7 (dk_at dksX2_besides_2 11 rfl rfl)
theorem dX2_besides_59 : decode cX2_besides 59 = .ok (.ifCond .lt 23, 3) := dk_155 0 23 (dk_at dksX2_besides_2 13 rfl rfl)
theorem dX2_besides_62 : decode cX2_besides 62 = .ok (.iload_n 1, 1) := dk_27 (dk_at dksX2_besides_2 16 rfl rfl)
theorem dX2_besides_63 : decode cX2_besides 63 = .ok (.ifCond .lt 15, 3) := dk_155 0 15 (dk_at dksX2_besides_2 17 rfl rfl)
theorem dX2_besides_66 : decode cX2_besides 66 = .ok (.iload 6, 2) := dk_21 6 (dk_at dksX2_besides_2 20 rfl rfl)
theorem dX2_besides_68 : decode cX2_besides 68 = .ok (.iload_n 1, 1) := dk_27 (dk_at dksX2_besides_2 22 rfl rfl)
theorem dX2_besides_69 : decode cX2_besides 69 = .ok (.if_icmp .ne 13, 3) := dk_160 0 13 (dk_at dksX2_besides_3 0 rfl rfl)
theorem dX2_besides_72 : decode cX2_besides 72 = .ok (.iload 7, 2) := dk_21 7 (dk_at dksX2_besides_3 3 rfl rfl)
theorem dX2_besides_74 : decode cX2_besides 74 = .ok (.iload_n 2, 1) := dk_28 (dk_at dksX2_besides_3 5 rfl rfl)
theorem dX2_besides_75 : decode cX2_besides 75 = .ok (.if_icmp .ne 7, 3) := dk_160 0 7 (dk_at dksX2_besides_3 6 rfl rfl)
theorem dX2_besides_78 : decode cX2_besides 78 = .ok (.iconst 1, 1) := dk_4 (dk_at dksX2_besides_3 9 rfl rfl)
theorem dX2_besides_79 : decode cX2_besides 79 = .ok (.goto 4, 3) := dk_167 0 4 (dk_at dksX2_besides_3 10 rfl rfl)
theorem dX2_besides_82 : decode cX2_besides 82 = .ok (.iconst 0, 1) := dk_3 (dk_at dksX2_besides_3 13 rfl rfl)
theorem dX2_besides_83 : decode cX2_besides 83 = .ok (.iadd, 1) := dk_96 (dk_at dksX2_besides_3 14 rfl rfl)
theorem dX2_besides_84 : decode cX2_besides 84 = .ok (.istore_n 3, 1) := dk_62 (dk_at dksX2_besides_3 15 rfl rfl)
theorem dX2_besides_85 : decode cX2_besides 85 = .ok (.iinc 5 1, 3) := dk_132 5 1 (dk_at dksX2_besides_3 16 rfl rfl)
theorem dX2_besides_88 : decode cX2_besides 88 = .ok (.goto (-71), 3) := dk_167 255 185 (dk_at dksX2_besides_3 19 rfl rfl)
theorem dX2_besides_91 : decode cX2_besides 91 = .ok (.iinc 4 1, 3) := dk_132 4 1 (dk_at dksX2_besides_4 0 rfl rfl)
theorem dX2_besides_94 : decode cX2_besides 94 = .ok (.goto (-89), 3) := dk_167 255 167 (dk_at dksX2_besides_4 3 rfl rfl)
theorem dX2_besides_97 : decode cX2_besides 97 = .ok (.iload_n 3, 1) := dk_29 (dk_at dksX2_besides_4 6 rfl rfl)
theorem dX2_besides_98 : decode cX2_besides 98 = .ok (.ireturn, 1) := dk_172 (dk_at dksX2_besides_4 7 rfl rfl)
abbrev cX2_chance : ByteArray := prog_11_method_24_code
def yX2_chance : MethodName := ⟨RX2, "chance", "(III)J"⟩
def dkwX2_chance_6 : List UInt8 := [167, 0, 8, 22, 8, 22, 10, 109, 173]
abbrev dktX2_chance_6 : List UInt8 := dkwX2_chance_6 ++ []
def dkwX2_chance_5 : List UInt8 := [55, 14, 22, 12, 55, 10, 22, 14, 55, 12, 167, 255, 234, 29, 154, 0, 11, 22, 6, 22, 10, 109]
abbrev dktX2_chance_5 : List UInt8 := dkwX2_chance_5 ++ dktX2_chance_6
def dkwX2_chance_4 : List UInt8 := [105, 55, 8, 22, 6, 55, 10, 22, 8, 55, 12, 22, 12, 9, 148, 153, 0, 21, 22, 10, 22, 12, 113]
abbrev dktX2_chance_4 : List UInt8 := dkwX2_chance_4 ++ dktX2_chance_5
def dkwX2_chance_3 : List UInt8 := [27, 182, 0, 187, 4, 100, 167, 0, 8, 42, 28, 182, 0, 187, 133, 105, 55, 6, 22, 4, 22, 4, 10, 101]
abbrev dktX2_chance_3 : List UInt8 := dkwX2_chance_3 ++ dktX2_chance_4
def dkwX2_chance_2 : List UInt8 := [133, 173, 42, 16, 252, 16, 252, 182, 0, 190, 133, 42, 27, 182, 0, 187, 133, 105, 27, 28, 160, 0, 13, 42]
abbrev dktX2_chance_2 : List UInt8 := dkwX2_chance_2 ++ dktX2_chance_3
def dkwX2_chance_1 : List UInt8 := [154, 0, 7, 20, 0, 193, 173, 42, 182, 0, 195, 133, 55, 4, 22, 4, 20, 0, 198, 148, 156, 0, 6, 29]
abbrev dktX2_chance_1 : List UInt8 := dkwX2_chance_1 ++ dktX2_chance_2
def dkwX2_chance_0 : List UInt8 := [42, 27, 182, 0, 184, 153, 0, 21, 42, 28, 182, 0, 184, 153, 0, 13, 29, 133, 9, 10, 184, 0, 138]
abbrev dktX2_chance_0 : List UInt8 := dkwX2_chance_0 ++ dktX2_chance_1
theorem dksX2_chance_0 : cX2_chance.data.toList.drop 0 = dktX2_chance_0 := by decide +kernel
theorem dksX2_chance_1 : cX2_chance.data.toList.drop 23 = dktX2_chance_1 := dk_seg dksX2_chance_0 23 rfl rfl
theorem dksX2_chance_2 : cX2_chance.data.toList.drop 47 = dktX2_chance_2 := dk_seg dksX2_chance_1 24 rfl rfl
theorem dksX2_chance_3 : cX2_chance.data.toList.drop 71 = dktX2_chance_3 := dk_seg dksX2_chance_2 24 rfl rfl
theorem dksX2_chance_4 : cX2_chance.data.toList.drop 95 = dktX2_chance_4 := dk_seg dksX2_chance_3 24 rfl rfl
theorem dksX2_chance_5 : cX2_chance.data.toList.drop 118 = dktX2_chance_5 := dk_seg dksX2_chance_4 23 rfl rfl
theorem dksX2_chance_6 : cX2_chance.data.toList.drop 140 = dktX2_chance_6 := dk_seg dksX2_chance_5 22 rfl rfl
theorem dX2_chance_0 : decode cX2_chance 0 = .ok (.aload_n 0, 1) := dk_42 (dk_at dksX2_chance_0 0 rfl rfl)
theorem dX2_chance_1 : decode cX2_chance 1 = .ok (.iload_n 1, 1) := dk_27 (dk_at dksX2_chance_0 1 rfl rfl)
theorem dX2_chance_2 : decode cX2_chance 2 = .ok (.invokevirtual 184, 3) := dk_182 0 184 (dk_at dksX2_chance_0 2 rfl rfl)
theorem dX2_chance_5 : decode cX2_chance 5 = .ok (.ifCond .eq 21, 3) := dk_153 0 21 (dk_at dksX2_chance_0 5 rfl rfl)
theorem dX2_chance_8 : decode cX2_chance 8 = .ok (.aload_n 0, 1) := dk_42 (dk_at dksX2_chance_0 8 rfl rfl)
theorem dX2_chance_9 : decode cX2_chance 9 = .ok (.iload_n 2, 1) := dk_28 (dk_at dksX2_chance_0 9 rfl rfl)
theorem dX2_chance_10 : decode cX2_chance 10 = .ok (.invokevirtual 184, 3) := dk_182 0 184 (dk_at dksX2_chance_0 10 rfl rfl)
theorem dX2_chance_13 : decode cX2_chance 13 = .ok (.ifCond .eq 13, 3) := dk_153 0 13 (dk_at dksX2_chance_0 13 rfl rfl)
theorem dX2_chance_16 : decode cX2_chance 16 = .ok (.iload_n 3, 1) := dk_29 (dk_at dksX2_chance_0 16 rfl rfl)
theorem dX2_chance_17 : decode cX2_chance 17 = .ok (.i2l, 1) := dk_133 (dk_at dksX2_chance_0 17 rfl rfl)
theorem dX2_chance_18 : decode cX2_chance 18 = .ok (.lconst 0, 1) := dk_9 (dk_at dksX2_chance_0 18 rfl rfl)
theorem dX2_chance_19 : decode cX2_chance 19 = .ok (.lconst 1, 1) := dk_10 (dk_at dksX2_chance_0 19 rfl rfl)
theorem dX2_chance_20 : decode cX2_chance 20 = .ok (.invokestatic 138, 3) := dk_184 0 138 (dk_at dksX2_chance_0 20 rfl rfl)
theorem dX2_chance_23 : decode cX2_chance 23 = .ok (.ifCond .ne 7, 3) := dk_154 0 7 (dk_at dksX2_chance_1 0 rfl rfl)
theorem dX2_chance_26 : decode cX2_chance 26 = .ok (.ldc2_w 193, 3) := dk_20 0 193 (dk_at dksX2_chance_1 3 rfl rfl)
theorem dX2_chance_29 : decode cX2_chance 29 = .ok (.lreturn, 1) := dk_173 (dk_at dksX2_chance_1 6 rfl rfl)
theorem dX2_chance_30 : decode cX2_chance 30 = .ok (.aload_n 0, 1) := dk_42 (dk_at dksX2_chance_1 7 rfl rfl)
theorem dX2_chance_31 : decode cX2_chance 31 = .ok (.invokevirtual 195, 3) := dk_182 0 195 (dk_at dksX2_chance_1 8 rfl rfl)
theorem dX2_chance_34 : decode cX2_chance 34 = .ok (.i2l, 1) := dk_133 (dk_at dksX2_chance_1 11 rfl rfl)
theorem dX2_chance_35 : decode cX2_chance 35 = .ok (.lstore 4, 2) := dk_55 4 (dk_at dksX2_chance_1 12 rfl rfl)
theorem dX2_chance_37 : decode cX2_chance 37 = .ok (.lload 4, 2) := dk_22 4 (dk_at dksX2_chance_1 14 rfl rfl)
theorem dX2_chance_39 : decode cX2_chance 39 = .ok (.ldc2_w 198, 3) := dk_20 0 198 (dk_at dksX2_chance_1 16 rfl rfl)
theorem dX2_chance_42 : decode cX2_chance 42 = .ok (.lcmp, 1) := dk_148 (dk_at dksX2_chance_1 19 rfl rfl)
theorem dX2_chance_43 : decode cX2_chance 43 = .ok (.ifCond .ge 6, 3) := dk_156 0 6 (dk_at dksX2_chance_1 20 rfl rfl)
theorem dX2_chance_46 : decode cX2_chance 46 = .ok (.iload_n 3, 1) := dk_29 (dk_at dksX2_chance_1 23 rfl rfl)
theorem dX2_chance_47 : decode cX2_chance 47 = .ok (.i2l, 1) := dk_133 (dk_at dksX2_chance_2 0 rfl rfl)
theorem dX2_chance_48 : decode cX2_chance 48 = .ok (.lreturn, 1) := dk_173 (dk_at dksX2_chance_2 1 rfl rfl)
theorem dX2_chance_49 : decode cX2_chance 49 = .ok (.aload_n 0, 1) := dk_42 (dk_at dksX2_chance_2 2 rfl rfl)
theorem dX2_chance_50 : decode cX2_chance 50 = .ok (.bipush (-4), 2) := dk_16 252 (dk_at dksX2_chance_2 3 rfl rfl)
theorem dX2_chance_52 : decode cX2_chance 52 = .ok (.bipush (-4), 2) := dk_16 252 (dk_at dksX2_chance_2 5 rfl rfl)
theorem dX2_chance_54 : decode cX2_chance 54 = .ok (.invokevirtual 190, 3) := dk_182 0 190 (dk_at dksX2_chance_2 7 rfl rfl)
theorem dX2_chance_57 : decode cX2_chance 57 = .ok (.i2l, 1) := dk_133 (dk_at dksX2_chance_2 10 rfl rfl)
theorem dX2_chance_58 : decode cX2_chance 58 = .ok (.aload_n 0, 1) := dk_42 (dk_at dksX2_chance_2 11 rfl rfl)
theorem dX2_chance_59 : decode cX2_chance 59 = .ok (.iload_n 1, 1) := dk_27 (dk_at dksX2_chance_2 12 rfl rfl)
theorem dX2_chance_60 : decode cX2_chance 60 = .ok (.invokevirtual 187, 3) := dk_182 0 187 (dk_at dksX2_chance_2 13 rfl rfl)
theorem dX2_chance_63 : decode cX2_chance 63 = .ok (.i2l, 1) := dk_133 (dk_at dksX2_chance_2 16 rfl rfl)
theorem dX2_chance_64 : decode cX2_chance 64 = .ok (.lmul, 1) := dk_105 (dk_at dksX2_chance_2 17 rfl rfl)
theorem dX2_chance_65 : decode cX2_chance 65 = .ok (.iload_n 1, 1) := dk_27 (dk_at dksX2_chance_2 18 rfl rfl)
theorem dX2_chance_66 : decode cX2_chance 66 = .ok (.iload_n 2, 1) := dk_28 (dk_at dksX2_chance_2 19 rfl rfl)
theorem dX2_chance_67 : decode cX2_chance 67 = .ok (.if_icmp .ne 13, 3) := dk_160 0 13 (dk_at dksX2_chance_2 20 rfl rfl)
theorem dX2_chance_70 : decode cX2_chance 70 = .ok (.aload_n 0, 1) := dk_42 (dk_at dksX2_chance_2 23 rfl rfl)
theorem dX2_chance_71 : decode cX2_chance 71 = .ok (.iload_n 1, 1) := dk_27 (dk_at dksX2_chance_3 0 rfl rfl)
theorem dX2_chance_72 : decode cX2_chance 72 = .ok (.invokevirtual 187, 3) := dk_182 0 187 (dk_at dksX2_chance_3 1 rfl rfl)
theorem dX2_chance_75 : decode cX2_chance 75 = .ok (.iconst 1, 1) := dk_4 (dk_at dksX2_chance_3 4 rfl rfl)
theorem dX2_chance_76 : decode cX2_chance 76 = .ok (.isub, 1) := dk_100 (dk_at dksX2_chance_3 5 rfl rfl)
theorem dX2_chance_77 : decode cX2_chance 77 = .ok (.goto 8, 3) := dk_167 0 8 (dk_at dksX2_chance_3 6 rfl rfl)
theorem dX2_chance_80 : decode cX2_chance 80 = .ok (.aload_n 0, 1) := dk_42 (dk_at dksX2_chance_3 9 rfl rfl)
theorem dX2_chance_81 : decode cX2_chance 81 = .ok (.iload_n 2, 1) := dk_28 (dk_at dksX2_chance_3 10 rfl rfl)
theorem dX2_chance_82 : decode cX2_chance 82 = .ok (.invokevirtual 187, 3) := dk_182 0 187 (dk_at dksX2_chance_3 11 rfl rfl)
theorem dX2_chance_85 : decode cX2_chance 85 = .ok (.i2l, 1) := dk_133 (dk_at dksX2_chance_3 14 rfl rfl)
theorem dX2_chance_86 : decode cX2_chance 86 = .ok (.lmul, 1) := dk_105 (dk_at dksX2_chance_3 15 rfl rfl)
theorem dX2_chance_87 : decode cX2_chance 87 = .ok (.lstore 6, 2) := dk_55 6 (dk_at dksX2_chance_3 16 rfl rfl)
theorem dX2_chance_89 : decode cX2_chance 89 = .ok (.lload 4, 2) := dk_22 4 (dk_at dksX2_chance_3 18 rfl rfl)
theorem dX2_chance_91 : decode cX2_chance 91 = .ok (.lload 4, 2) := dk_22 4 (dk_at dksX2_chance_3 20 rfl rfl)
theorem dX2_chance_93 : decode cX2_chance 93 = .ok (.lconst 1, 1) := dk_10 (dk_at dksX2_chance_3 22 rfl rfl)
theorem dX2_chance_94 : decode cX2_chance 94 = .ok (.lsub, 1) := dk_101 (dk_at dksX2_chance_3 23 rfl rfl)
theorem dX2_chance_95 : decode cX2_chance 95 = .ok (.lmul, 1) := dk_105 (dk_at dksX2_chance_4 0 rfl rfl)
theorem dX2_chance_96 : decode cX2_chance 96 = .ok (.lstore 8, 2) := dk_55 8 (dk_at dksX2_chance_4 1 rfl rfl)
theorem dX2_chance_98 : decode cX2_chance 98 = .ok (.lload 6, 2) := dk_22 6 (dk_at dksX2_chance_4 3 rfl rfl)
theorem dX2_chance_100 : decode cX2_chance 100 = .ok (.lstore 10, 2) := dk_55 10 (dk_at dksX2_chance_4 5 rfl rfl)
theorem dX2_chance_102 : decode cX2_chance 102 = .ok (.lload 8, 2) := dk_22 8 (dk_at dksX2_chance_4 7 rfl rfl)
theorem dX2_chance_104 : decode cX2_chance 104 = .ok (.lstore 12, 2) := dk_55 12 (dk_at dksX2_chance_4 9 rfl rfl)
theorem dX2_chance_106 : decode cX2_chance 106 = .ok (.lload 12, 2) := dk_22 12 (dk_at dksX2_chance_4 11 rfl rfl)
theorem dX2_chance_108 : decode cX2_chance 108 = .ok (.lconst 0, 1) := dk_9 (dk_at dksX2_chance_4 13 rfl rfl)
theorem dX2_chance_109 : decode cX2_chance 109 = .ok (.lcmp, 1) := dk_148 (dk_at dksX2_chance_4 14 rfl rfl)
theorem dX2_chance_110 : decode cX2_chance 110 = .ok (.ifCond .eq 21, 3) := dk_153 0 21 (dk_at dksX2_chance_4 15 rfl rfl)
theorem dX2_chance_113 : decode cX2_chance 113 = .ok (.lload 10, 2) := dk_22 10 (dk_at dksX2_chance_4 18 rfl rfl)
theorem dX2_chance_115 : decode cX2_chance 115 = .ok (.lload 12, 2) := dk_22 12 (dk_at dksX2_chance_4 20 rfl rfl)
theorem dX2_chance_117 : decode cX2_chance 117 = .ok (.lrem, 1) := dk_113 (dk_at dksX2_chance_4 22 rfl rfl)
theorem dX2_chance_118 : decode cX2_chance 118 = .ok (.lstore 14, 2) := dk_55 14 (dk_at dksX2_chance_5 0 rfl rfl)
theorem dX2_chance_120 : decode cX2_chance 120 = .ok (.lload 12, 2) := dk_22 12 (dk_at dksX2_chance_5 2 rfl rfl)
theorem dX2_chance_122 : decode cX2_chance 122 = .ok (.lstore 10, 2) := dk_55 10 (dk_at dksX2_chance_5 4 rfl rfl)
theorem dX2_chance_124 : decode cX2_chance 124 = .ok (.lload 14, 2) := dk_22 14 (dk_at dksX2_chance_5 6 rfl rfl)
theorem dX2_chance_126 : decode cX2_chance 126 = .ok (.lstore 12, 2) := dk_55 12 (dk_at dksX2_chance_5 8 rfl rfl)
theorem dX2_chance_128 : decode cX2_chance 128 = .ok (.goto (-22), 3) := dk_167 255 234 (dk_at dksX2_chance_5 10 rfl rfl)
theorem dX2_chance_131 : decode cX2_chance 131 = .ok (.iload_n 3, 1) := dk_29 (dk_at dksX2_chance_5 13 rfl rfl)
theorem dX2_chance_132 : decode cX2_chance 132 = .ok (.ifCond .ne 11, 3) := dk_154 0 11 (dk_at dksX2_chance_5 14 rfl rfl)
theorem dX2_chance_135 : decode cX2_chance 135 = .ok (.lload 6, 2) := dk_22 6 (dk_at dksX2_chance_5 17 rfl rfl)
theorem dX2_chance_137 : decode cX2_chance 137 = .ok (.lload 10, 2) := dk_22 10 (dk_at dksX2_chance_5 19 rfl rfl)
theorem dX2_chance_139 : decode cX2_chance 139 = .ok (.ldiv, 1) := dk_109 (dk_at dksX2_chance_5 21 rfl rfl)
theorem dX2_chance_140 : decode cX2_chance 140 = .ok (.goto 8, 3) := dk_167 0 8 (dk_at dksX2_chance_6 0 rfl rfl)
theorem dX2_chance_143 : decode cX2_chance 143 = .ok (.lload 8, 2) := dk_22 8 (dk_at dksX2_chance_6 3 rfl rfl)
theorem dX2_chance_145 : decode cX2_chance 145 = .ok (.lload 10, 2) := dk_22 10 (dk_at dksX2_chance_6 5 rfl rfl)
theorem dX2_chance_147 : decode cX2_chance 147 = .ok (.ldiv, 1) := dk_109 (dk_at dksX2_chance_6 7 rfl rfl)
theorem dX2_chance_148 : decode cX2_chance 148 = .ok (.lreturn, 1) := dk_173 (dk_at dksX2_chance_6 8 rfl rfl)
abbrev cX2_allSigns : ByteArray := prog_11_method_20_code
def yX2_allSigns : MethodName := ⟨RX2, "allSigns", "()I"⟩
def dkwX2_allSigns_2 : List UInt8 := [132, 2, 1, 167, 255, 210, 27, 172]
abbrev dktX2_allSigns_2 : List UInt8 := dkwX2_allSigns_2 ++ []
def dkwX2_allSigns_1 : List UInt8 := [27, 42, 28, 29, 182, 0, 170, 155, 0, 7, 4, 167, 0, 4, 3, 96, 60, 132, 3, 1, 167, 255, 226]
abbrev dktX2_allSigns_1 : List UInt8 := dkwX2_allSigns_1 ++ dktX2_allSigns_2
def dkwX2_allSigns_0 : List UInt8 := [3, 60, 3, 61, 28, 42, 180, 0, 164, 162, 0, 44, 3, 62, 29, 42, 180, 0, 20, 28, 46, 162, 0, 26]
abbrev dktX2_allSigns_0 : List UInt8 := dkwX2_allSigns_0 ++ dktX2_allSigns_1
theorem dksX2_allSigns_0 : cX2_allSigns.data.toList.drop 0 = dktX2_allSigns_0 := by decide +kernel
theorem dksX2_allSigns_1 : cX2_allSigns.data.toList.drop 24 = dktX2_allSigns_1 := dk_seg dksX2_allSigns_0 24 rfl rfl
theorem dksX2_allSigns_2 : cX2_allSigns.data.toList.drop 47 = dktX2_allSigns_2 := dk_seg dksX2_allSigns_1 23 rfl rfl
theorem dX2_allSigns_0 : decode cX2_allSigns 0 = .ok (.iconst 0, 1) := dk_3 (dk_at dksX2_allSigns_0 0 rfl rfl)
theorem dX2_allSigns_1 : decode cX2_allSigns 1 = .ok (.istore_n 1, 1) := dk_60 (dk_at dksX2_allSigns_0 1 rfl rfl)
theorem dX2_allSigns_2 : decode cX2_allSigns 2 = .ok (.iconst 0, 1) := dk_3 (dk_at dksX2_allSigns_0 2 rfl rfl)
theorem dX2_allSigns_3 : decode cX2_allSigns 3 = .ok (.istore_n 2, 1) := dk_61 (dk_at dksX2_allSigns_0 3 rfl rfl)
theorem dX2_allSigns_4 : decode cX2_allSigns 4 = .ok (.iload_n 2, 1) := dk_28 (dk_at dksX2_allSigns_0 4 rfl rfl)
theorem dX2_allSigns_5 : decode cX2_allSigns 5 = .ok (.aload_n 0, 1) := dk_42 (dk_at dksX2_allSigns_0 5 rfl rfl)
theorem dX2_allSigns_6 : decode cX2_allSigns 6 = .ok (.getfield 164, 3) := dk_180 0 164 (dk_at dksX2_allSigns_0 6 rfl rfl)
theorem dX2_allSigns_9 : decode cX2_allSigns 9 = .ok (.if_icmp .ge 44, 3) := dk_162 0 44 (dk_at dksX2_allSigns_0 9 rfl rfl)
theorem dX2_allSigns_12 : decode cX2_allSigns 12 = .ok (.iconst 0, 1) := dk_3 (dk_at dksX2_allSigns_0 12 rfl rfl)
theorem dX2_allSigns_13 : decode cX2_allSigns 13 = .ok (.istore_n 3, 1) := dk_62 (dk_at dksX2_allSigns_0 13 rfl rfl)
theorem dX2_allSigns_14 : decode cX2_allSigns 14 = .ok (.iload_n 3, 1) := dk_29 (dk_at dksX2_allSigns_0 14 rfl rfl)
theorem dX2_allSigns_15 : decode cX2_allSigns 15 = .ok (.aload_n 0, 1) := dk_42 (dk_at dksX2_allSigns_0 15 rfl rfl)
theorem dX2_allSigns_16 : decode cX2_allSigns 16 = .ok (.getfield 20, 3) := dk_180 0 20 (dk_at dksX2_allSigns_0 16 rfl rfl)
theorem dX2_allSigns_19 : decode cX2_allSigns 19 = .ok (.iload_n 2, 1) := dk_28 (dk_at dksX2_allSigns_0 19 rfl rfl)
theorem dX2_allSigns_20 : decode cX2_allSigns 20 = .ok (.iaload, 1) := dk_46 (dk_at dksX2_allSigns_0 20 rfl rfl)
theorem dX2_allSigns_21 : decode cX2_allSigns 21 = .ok (.if_icmp .ge 26, 3) := dk_162 0 26 (dk_at dksX2_allSigns_0 21 rfl rfl)
theorem dX2_allSigns_24 : decode cX2_allSigns 24 = .ok (.iload_n 1, 1) := dk_27 (dk_at dksX2_allSigns_1 0 rfl rfl)
theorem dX2_allSigns_25 : decode cX2_allSigns 25 = .ok (.aload_n 0, 1) := dk_42 (dk_at dksX2_allSigns_1 1 rfl rfl)
theorem dX2_allSigns_26 : decode cX2_allSigns 26 = .ok (.iload_n 2, 1) := dk_28 (dk_at dksX2_allSigns_1 2 rfl rfl)
theorem dX2_allSigns_27 : decode cX2_allSigns 27 = .ok (.iload_n 3, 1) := dk_29 (dk_at dksX2_allSigns_1 3 rfl rfl)
theorem dX2_allSigns_28 : decode cX2_allSigns 28 = .ok (.invokevirtual 170, 3) := dk_182 0 170 (dk_at dksX2_allSigns_1 4 rfl rfl)
theorem dX2_allSigns_31 : decode cX2_allSigns 31 = .ok (.ifCond .lt 7, 3) := dk_155 0 7 (dk_at dksX2_allSigns_1 7 rfl rfl)
theorem dX2_allSigns_34 : decode cX2_allSigns 34 = .ok (.iconst 1, 1) := dk_4 (dk_at dksX2_allSigns_1 10 rfl rfl)
theorem dX2_allSigns_35 : decode cX2_allSigns 35 = .ok (.goto 4, 3) := dk_167 0 4 (dk_at dksX2_allSigns_1 11 rfl rfl)
theorem dX2_allSigns_38 : decode cX2_allSigns 38 = .ok (.iconst 0, 1) := dk_3 (dk_at dksX2_allSigns_1 14 rfl rfl)
theorem dX2_allSigns_39 : decode cX2_allSigns 39 = .ok (.iadd, 1) := dk_96 (dk_at dksX2_allSigns_1 15 rfl rfl)
theorem dX2_allSigns_40 : decode cX2_allSigns 40 = .ok (.istore_n 1, 1) := dk_60 (dk_at dksX2_allSigns_1 16 rfl rfl)
theorem dX2_allSigns_41 : decode cX2_allSigns 41 = .ok (.iinc 3 1, 3) := dk_132 3 1 (dk_at dksX2_allSigns_1 17 rfl rfl)
theorem dX2_allSigns_44 : decode cX2_allSigns 44 = .ok (.goto (-30), 3) := dk_167 255 226 (dk_at dksX2_allSigns_1 20 rfl rfl)
theorem dX2_allSigns_47 : decode cX2_allSigns 47 = .ok (.iinc 2 1, 3) := dk_132 2 1 (dk_at dksX2_allSigns_2 0 rfl rfl)
theorem dX2_allSigns_50 : decode cX2_allSigns 50 = .ok (.goto (-46), 3) := dk_167 255 210 (dk_at dksX2_allSigns_2 3 rfl rfl)
theorem dX2_allSigns_53 : decode cX2_allSigns 53 = .ok (.iload_n 1, 1) := dk_27 (dk_at dksX2_allSigns_2 6 rfl rfl)
theorem dX2_allSigns_54 : decode cX2_allSigns 54 = .ok (.ireturn, 1) := dk_172 (dk_at dksX2_allSigns_2 7 rfl rfl)
abbrev cX2_runs : ByteArray := prog_11_method_26_code
def yX2_runs : MethodName := ⟨RX2, "runs", "(I)I"⟩
def dkwX2_runs_2 : List UInt8 := [164, 0, 7, 4, 167, 0, 13, 29, 28, 162, 0, 7, 2, 167, 0, 4, 3, 172]
abbrev dktX2_runs_2 : List UInt8 := dkwX2_runs_2 ++ []
def dkwX2_runs_1 : List UInt8 := [182, 0, 203, 62, 27, 4, 160, 0, 7, 28, 167, 0, 31, 27, 5, 160, 0, 7, 29, 167, 0, 22, 29, 28]
abbrev dktX2_runs_1 : List UInt8 := dkwX2_runs_1 ++ dktX2_runs_2
def dkwX2_runs_0 : List UInt8 := [27, 133, 9, 20, 0, 198, 184, 0, 138, 154, 0, 6, 16, 246, 172, 42, 3, 182, 0, 203, 61, 42, 4]
abbrev dktX2_runs_0 : List UInt8 := dkwX2_runs_0 ++ dktX2_runs_1
theorem dksX2_runs_0 : cX2_runs.data.toList.drop 0 = dktX2_runs_0 := by decide +kernel
theorem dksX2_runs_1 : cX2_runs.data.toList.drop 23 = dktX2_runs_1 := dk_seg dksX2_runs_0 23 rfl rfl
theorem dksX2_runs_2 : cX2_runs.data.toList.drop 47 = dktX2_runs_2 := dk_seg dksX2_runs_1 24 rfl rfl
theorem dX2_runs_0 : decode cX2_runs 0 = .ok (.iload_n 1, 1) := dk_27 (dk_at dksX2_runs_0 0 rfl rfl)
theorem dX2_runs_1 : decode cX2_runs 1 = .ok (.i2l, 1) := dk_133 (dk_at dksX2_runs_0 1 rfl rfl)
theorem dX2_runs_2 : decode cX2_runs 2 = .ok (.lconst 0, 1) := dk_9 (dk_at dksX2_runs_0 2 rfl rfl)
theorem dX2_runs_3 : decode cX2_runs 3 = .ok (.ldc2_w 198, 3) := dk_20 0 198 (dk_at dksX2_runs_0 3 rfl rfl)
theorem dX2_runs_6 : decode cX2_runs 6 = .ok (.invokestatic 138, 3) := dk_184 0 138 (dk_at dksX2_runs_0 6 rfl rfl)
theorem dX2_runs_9 : decode cX2_runs 9 = .ok (.ifCond .ne 6, 3) := dk_154 0 6 (dk_at dksX2_runs_0 9 rfl rfl)
theorem dX2_runs_12 : decode cX2_runs 12 = .ok (.bipush (-10), 2) := dk_16 246 (dk_at dksX2_runs_0 12 rfl rfl)
theorem dX2_runs_14 : decode cX2_runs 14 = .ok (.ireturn, 1) := dk_172 (dk_at dksX2_runs_0 14 rfl rfl)
theorem dX2_runs_15 : decode cX2_runs 15 = .ok (.aload_n 0, 1) := dk_42 (dk_at dksX2_runs_0 15 rfl rfl)
theorem dX2_runs_16 : decode cX2_runs 16 = .ok (.iconst 0, 1) := dk_3 (dk_at dksX2_runs_0 16 rfl rfl)
theorem dX2_runs_17 : decode cX2_runs 17 = .ok (.invokevirtual 203, 3) := dk_182 0 203 (dk_at dksX2_runs_0 17 rfl rfl)
theorem dX2_runs_20 : decode cX2_runs 20 = .ok (.istore_n 2, 1) := dk_61 (dk_at dksX2_runs_0 20 rfl rfl)
theorem dX2_runs_21 : decode cX2_runs 21 = .ok (.aload_n 0, 1) := dk_42 (dk_at dksX2_runs_0 21 rfl rfl)
theorem dX2_runs_22 : decode cX2_runs 22 = .ok (.iconst 1, 1) := dk_4 (dk_at dksX2_runs_0 22 rfl rfl)
theorem dX2_runs_23 : decode cX2_runs 23 = .ok (.invokevirtual 203, 3) := dk_182 0 203 (dk_at dksX2_runs_1 0 rfl rfl)
theorem dX2_runs_26 : decode cX2_runs 26 = .ok (.istore_n 3, 1) := dk_62 (dk_at dksX2_runs_1 3 rfl rfl)
theorem dX2_runs_27 : decode cX2_runs 27 = .ok (.iload_n 1, 1) := dk_27 (dk_at dksX2_runs_1 4 rfl rfl)
theorem dX2_runs_28 : decode cX2_runs 28 = .ok (.iconst 1, 1) := dk_4 (dk_at dksX2_runs_1 5 rfl rfl)
theorem dX2_runs_29 : decode cX2_runs 29 = .ok (.if_icmp .ne 7, 3) := dk_160 0 7 (dk_at dksX2_runs_1 6 rfl rfl)
theorem dX2_runs_32 : decode cX2_runs 32 = .ok (.iload_n 2, 1) := dk_28 (dk_at dksX2_runs_1 9 rfl rfl)
theorem dX2_runs_33 : decode cX2_runs 33 = .ok (.goto 31, 3) := dk_167 0 31 (dk_at dksX2_runs_1 10 rfl rfl)
theorem dX2_runs_36 : decode cX2_runs 36 = .ok (.iload_n 1, 1) := dk_27 (dk_at dksX2_runs_1 13 rfl rfl)
theorem dX2_runs_37 : decode cX2_runs 37 = .ok (.iconst 2, 1) := dk_5 (dk_at dksX2_runs_1 14 rfl rfl)
theorem dX2_runs_38 : decode cX2_runs 38 = .ok (.if_icmp .ne 7, 3) := dk_160 0 7 (dk_at dksX2_runs_1 15 rfl rfl)
theorem dX2_runs_41 : decode cX2_runs 41 = .ok (.iload_n 3, 1) := dk_29 (dk_at dksX2_runs_1 18 rfl rfl)
theorem dX2_runs_42 : decode cX2_runs 42 = .ok (.goto 22, 3) := dk_167 0 22 (dk_at dksX2_runs_1 19 rfl rfl)
theorem dX2_runs_45 : decode cX2_runs 45 = .ok (.iload_n 3, 1) := dk_29 (dk_at dksX2_runs_1 22 rfl rfl)
theorem dX2_runs_46 : decode cX2_runs 46 = .ok (.iload_n 2, 1) := dk_28 (dk_at dksX2_runs_1 23 rfl rfl)
theorem dX2_runs_47 : decode cX2_runs 47 = .ok (.if_icmp .le 7, 3) := dk_164 0 7 (dk_at dksX2_runs_2 0 rfl rfl)
theorem dX2_runs_50 : decode cX2_runs 50 = .ok (.iconst 1, 1) := dk_4 (dk_at dksX2_runs_2 3 rfl rfl)
theorem dX2_runs_51 : decode cX2_runs 51 = .ok (.goto 13, 3) := dk_167 0 13 (dk_at dksX2_runs_2 4 rfl rfl)
theorem dX2_runs_54 : decode cX2_runs 54 = .ok (.iload_n 3, 1) := dk_29 (dk_at dksX2_runs_2 7 rfl rfl)
theorem dX2_runs_55 : decode cX2_runs 55 = .ok (.iload_n 2, 1) := dk_28 (dk_at dksX2_runs_2 8 rfl rfl)
theorem dX2_runs_56 : decode cX2_runs 56 = .ok (.if_icmp .ge 7, 3) := dk_162 0 7 (dk_at dksX2_runs_2 9 rfl rfl)
theorem dX2_runs_59 : decode cX2_runs 59 = .ok (.iconst (-1), 1) := dk_2 (dk_at dksX2_runs_2 12 rfl rfl)
theorem dX2_runs_60 : decode cX2_runs 60 = .ok (.goto 4, 3) := dk_167 0 4 (dk_at dksX2_runs_2 13 rfl rfl)
theorem dX2_runs_63 : decode cX2_runs 63 = .ok (.iconst 0, 1) := dk_3 (dk_at dksX2_runs_2 16 rfl rfl)
theorem dX2_runs_64 : decode cX2_runs 64 = .ok (.ireturn, 1) := dk_172 (dk_at dksX2_runs_2 17 rfl rfl)
abbrev cX2_edgeSum : ByteArray := prog_11_method_25_code
def yX2_edgeSum : MethodName := ⟨RX2, "edgeSum", "(Z)I"⟩
def dkwX2_edgeSum_4 : List UInt8 := [180, 0, 39, 29, 46, 42, 180, 0, 39, 29, 46, 104, 96, 61, 132, 3, 1, 167, 255, 231, 28, 172]
abbrev dktX2_edgeSum_4 : List UInt8 := dkwX2_edgeSum_4 ++ []
def dkwX2_edgeSum_3 : List UInt8 := [92, 46, 4, 96, 79, 132, 2, 1, 167, 255, 206, 3, 61, 3, 62, 29, 16, 24, 162, 0, 25, 28, 42]
abbrev dktX2_edgeSum_3 : List UInt8 := dkwX2_edgeSum_3 ++ dktX2_edgeSum_4
def dkwX2_edgeSum_2 : List UInt8 := [180, 0, 39, 42, 28, 27, 153, 0, 14, 42, 180, 0, 32, 28, 46, 4, 100, 167, 0, 4, 3, 182, 0, 200]
abbrev dktX2_edgeSum_2 : List UInt8 := dkwX2_edgeSum_2 ++ dktX2_edgeSum_3
def dkwX2_edgeSum_1 : List UInt8 := [167, 255, 240, 3, 61, 28, 42, 180, 0, 167, 162, 0, 48, 42, 180, 0, 35, 28, 51, 153, 0, 33, 42]
abbrev dktX2_edgeSum_1 : List UInt8 := dkwX2_edgeSum_1 ++ dktX2_edgeSum_2
def dkwX2_edgeSum_0 : List UInt8 := [42, 182, 0, 181, 3, 61, 28, 16, 24, 162, 0, 16, 42, 180, 0, 39, 28, 3, 79, 132, 2, 1]
abbrev dktX2_edgeSum_0 : List UInt8 := dkwX2_edgeSum_0 ++ dktX2_edgeSum_1
theorem dksX2_edgeSum_0 : cX2_edgeSum.data.toList.drop 0 = dktX2_edgeSum_0 := by decide +kernel
theorem dksX2_edgeSum_1 : cX2_edgeSum.data.toList.drop 22 = dktX2_edgeSum_1 := dk_seg dksX2_edgeSum_0 22 rfl rfl
theorem dksX2_edgeSum_2 : cX2_edgeSum.data.toList.drop 45 = dktX2_edgeSum_2 := dk_seg dksX2_edgeSum_1 23 rfl rfl
theorem dksX2_edgeSum_3 : cX2_edgeSum.data.toList.drop 69 = dktX2_edgeSum_3 := dk_seg dksX2_edgeSum_2 24 rfl rfl
theorem dksX2_edgeSum_4 : cX2_edgeSum.data.toList.drop 92 = dktX2_edgeSum_4 := dk_seg dksX2_edgeSum_3 23 rfl rfl
theorem dX2_edgeSum_0 : decode cX2_edgeSum 0 = .ok (.aload_n 0, 1) := dk_42 (dk_at dksX2_edgeSum_0 0 rfl rfl)
theorem dX2_edgeSum_1 : decode cX2_edgeSum 1 = .ok (.invokevirtual 181, 3) := dk_182 0 181 (dk_at dksX2_edgeSum_0 1 rfl rfl)
theorem dX2_edgeSum_4 : decode cX2_edgeSum 4 = .ok (.iconst 0, 1) := dk_3 (dk_at dksX2_edgeSum_0 4 rfl rfl)
theorem dX2_edgeSum_5 : decode cX2_edgeSum 5 = .ok (.istore_n 2, 1) := dk_61 (dk_at dksX2_edgeSum_0 5 rfl rfl)
theorem dX2_edgeSum_6 : decode cX2_edgeSum 6 = .ok (.iload_n 2, 1) := dk_28 (dk_at dksX2_edgeSum_0 6 rfl rfl)
theorem dX2_edgeSum_7 : decode cX2_edgeSum 7 = .ok (.bipush 24, 2) := dk_16 24 (dk_at dksX2_edgeSum_0 7 rfl rfl)
theorem dX2_edgeSum_9 : decode cX2_edgeSum 9 = .ok (.if_icmp .ge 16, 3) := dk_162 0 16 (dk_at dksX2_edgeSum_0 9 rfl rfl)
theorem dX2_edgeSum_12 : decode cX2_edgeSum 12 = .ok (.aload_n 0, 1) := dk_42 (dk_at dksX2_edgeSum_0 12 rfl rfl)
theorem dX2_edgeSum_13 : decode cX2_edgeSum 13 = .ok (.getfield 39, 3) := dk_180 0 39 (dk_at dksX2_edgeSum_0 13 rfl rfl)
theorem dX2_edgeSum_16 : decode cX2_edgeSum 16 = .ok (.iload_n 2, 1) := dk_28 (dk_at dksX2_edgeSum_0 16 rfl rfl)
theorem dX2_edgeSum_17 : decode cX2_edgeSum 17 = .ok (.iconst 0, 1) := dk_3 (dk_at dksX2_edgeSum_0 17 rfl rfl)
theorem dX2_edgeSum_18 : decode cX2_edgeSum 18 = .ok (.iastore, 1) := dk_79 (dk_at dksX2_edgeSum_0 18 rfl rfl)
theorem dX2_edgeSum_19 : decode cX2_edgeSum 19 = .ok (.iinc 2 1, 3) := dk_132 2 1 (dk_at dksX2_edgeSum_0 19 rfl rfl)
theorem dX2_edgeSum_22 : decode cX2_edgeSum 22 = .ok (.goto (-16), 3) := dk_167 255 240 (dk_at dksX2_edgeSum_1 0 rfl rfl)
theorem dX2_edgeSum_25 : decode cX2_edgeSum 25 = .ok (.iconst 0, 1) := dk_3 (dk_at dksX2_edgeSum_1 3 rfl rfl)
theorem dX2_edgeSum_26 : decode cX2_edgeSum 26 = .ok (.istore_n 2, 1) := dk_61 (dk_at dksX2_edgeSum_1 4 rfl rfl)
theorem dX2_edgeSum_27 : decode cX2_edgeSum 27 = .ok (.iload_n 2, 1) := dk_28 (dk_at dksX2_edgeSum_1 5 rfl rfl)
theorem dX2_edgeSum_28 : decode cX2_edgeSum 28 = .ok (.aload_n 0, 1) := dk_42 (dk_at dksX2_edgeSum_1 6 rfl rfl)
theorem dX2_edgeSum_29 : decode cX2_edgeSum 29 = .ok (.getfield 167, 3) := dk_180 0 167 (dk_at dksX2_edgeSum_1 7 rfl rfl)
theorem dX2_edgeSum_32 : decode cX2_edgeSum 32 = .ok (.if_icmp .ge 48, 3) := dk_162 0 48 (dk_at dksX2_edgeSum_1 10 rfl rfl)
theorem dX2_edgeSum_35 : decode cX2_edgeSum 35 = .ok (.aload_n 0, 1) := dk_42 (dk_at dksX2_edgeSum_1 13 rfl rfl)
theorem dX2_edgeSum_36 : decode cX2_edgeSum 36 = .ok (.getfield 35, 3) := dk_180 0 35 (dk_at dksX2_edgeSum_1 14 rfl rfl)
theorem dX2_edgeSum_39 : decode cX2_edgeSum 39 = .ok (.iload_n 2, 1) := dk_28 (dk_at dksX2_edgeSum_1 17 rfl rfl)
theorem dX2_edgeSum_40 : decode cX2_edgeSum 40 = .ok (.baload, 1) := dk_51 (dk_at dksX2_edgeSum_1 18 rfl rfl)
theorem dX2_edgeSum_41 : decode cX2_edgeSum 41 = .ok (.ifCond .eq 33, 3) := dk_153 0 33 (dk_at dksX2_edgeSum_1 19 rfl rfl)
theorem dX2_edgeSum_44 : decode cX2_edgeSum 44 = .ok (.aload_n 0, 1) := dk_42 (dk_at dksX2_edgeSum_1 22 rfl rfl)
theorem dX2_edgeSum_45 : decode cX2_edgeSum 45 = .ok (.getfield 39, 3) := dk_180 0 39 (dk_at dksX2_edgeSum_2 0 rfl rfl)
theorem dX2_edgeSum_48 : decode cX2_edgeSum 48 = .ok (.aload_n 0, 1) := dk_42 (dk_at dksX2_edgeSum_2 3 rfl rfl)
theorem dX2_edgeSum_49 : decode cX2_edgeSum 49 = .ok (.iload_n 2, 1) := dk_28 (dk_at dksX2_edgeSum_2 4 rfl rfl)
theorem dX2_edgeSum_50 : decode cX2_edgeSum 50 = .ok (.iload_n 1, 1) := dk_27 (dk_at dksX2_edgeSum_2 5 rfl rfl)
theorem dX2_edgeSum_51 : decode cX2_edgeSum 51 = .ok (.ifCond .eq 14, 3) := dk_153 0 14 (dk_at dksX2_edgeSum_2 6 rfl rfl)
theorem dX2_edgeSum_54 : decode cX2_edgeSum 54 = .ok (.aload_n 0, 1) := dk_42 (dk_at dksX2_edgeSum_2 9 rfl rfl)
theorem dX2_edgeSum_55 : decode cX2_edgeSum 55 = .ok (.getfield 32, 3) := dk_180 0 32 (dk_at dksX2_edgeSum_2 10 rfl rfl)
theorem dX2_edgeSum_58 : decode cX2_edgeSum 58 = .ok (.iload_n 2, 1) := dk_28 (dk_at dksX2_edgeSum_2 13 rfl rfl)
theorem dX2_edgeSum_59 : decode cX2_edgeSum 59 = .ok (.iaload, 1) := dk_46 (dk_at dksX2_edgeSum_2 14 rfl rfl)
theorem dX2_edgeSum_60 : decode cX2_edgeSum 60 = .ok (.iconst 1, 1) := dk_4 (dk_at dksX2_edgeSum_2 15 rfl rfl)
theorem dX2_edgeSum_61 : decode cX2_edgeSum 61 = .ok (.isub, 1) := dk_100 (dk_at dksX2_edgeSum_2 16 rfl rfl)
theorem dX2_edgeSum_62 : decode cX2_edgeSum 62 = .ok (.goto 4, 3) := dk_167 0 4 (dk_at dksX2_edgeSum_2 17 rfl rfl)
theorem dX2_edgeSum_65 : decode cX2_edgeSum 65 = .ok (.iconst 0, 1) := dk_3 (dk_at dksX2_edgeSum_2 20 rfl rfl)
theorem dX2_edgeSum_66 : decode cX2_edgeSum 66 = .ok (.invokevirtual 200, 3) := dk_182 0 200 (dk_at dksX2_edgeSum_2 21 rfl rfl)
theorem dX2_edgeSum_69 : decode cX2_edgeSum 69 = .ok (.dup2, 1) := dk_92 (dk_at dksX2_edgeSum_3 0 rfl rfl)
theorem dX2_edgeSum_70 : decode cX2_edgeSum 70 = .ok (.iaload, 1) := dk_46 (dk_at dksX2_edgeSum_3 1 rfl rfl)
theorem dX2_edgeSum_71 : decode cX2_edgeSum 71 = .ok (.iconst 1, 1) := dk_4 (dk_at dksX2_edgeSum_3 2 rfl rfl)
theorem dX2_edgeSum_72 : decode cX2_edgeSum 72 = .ok (.iadd, 1) := dk_96 (dk_at dksX2_edgeSum_3 3 rfl rfl)
theorem dX2_edgeSum_73 : decode cX2_edgeSum 73 = .ok (.iastore, 1) := dk_79 (dk_at dksX2_edgeSum_3 4 rfl rfl)
theorem dX2_edgeSum_74 : decode cX2_edgeSum 74 = .ok (.iinc 2 1, 3) := dk_132 2 1 (dk_at dksX2_edgeSum_3 5 rfl rfl)
theorem dX2_edgeSum_77 : decode cX2_edgeSum 77 = .ok (.goto (-50), 3) := dk_167 255 206 (dk_at dksX2_edgeSum_3 8 rfl rfl)
theorem dX2_edgeSum_80 : decode cX2_edgeSum 80 = .ok (.iconst 0, 1) := dk_3 (dk_at dksX2_edgeSum_3 11 rfl rfl)
theorem dX2_edgeSum_81 : decode cX2_edgeSum 81 = .ok (.istore_n 2, 1) := dk_61 (dk_at dksX2_edgeSum_3 12 rfl rfl)
theorem dX2_edgeSum_82 : decode cX2_edgeSum 82 = .ok (.iconst 0, 1) := dk_3 (dk_at dksX2_edgeSum_3 13 rfl rfl)
theorem dX2_edgeSum_83 : decode cX2_edgeSum 83 = .ok (.istore_n 3, 1) := dk_62 (dk_at dksX2_edgeSum_3 14 rfl rfl)
theorem dX2_edgeSum_84 : decode cX2_edgeSum 84 = .ok (.iload_n 3, 1) := dk_29 (dk_at dksX2_edgeSum_3 15 rfl rfl)
theorem dX2_edgeSum_85 : decode cX2_edgeSum 85 = .ok (.bipush 24, 2) := dk_16 24 (dk_at dksX2_edgeSum_3 16 rfl rfl)
theorem dX2_edgeSum_87 : decode cX2_edgeSum 87 = .ok (.if_icmp .ge 25, 3) := dk_162 0 25 (dk_at dksX2_edgeSum_3 18 rfl rfl)
theorem dX2_edgeSum_90 : decode cX2_edgeSum 90 = .ok (.iload_n 2, 1) := dk_28 (dk_at dksX2_edgeSum_3 21 rfl rfl)
theorem dX2_edgeSum_91 : decode cX2_edgeSum 91 = .ok (.aload_n 0, 1) := dk_42 (dk_at dksX2_edgeSum_3 22 rfl rfl)
theorem dX2_edgeSum_92 : decode cX2_edgeSum 92 = .ok (.getfield 39, 3) := dk_180 0 39 (dk_at dksX2_edgeSum_4 0 rfl rfl)
theorem dX2_edgeSum_95 : decode cX2_edgeSum 95 = .ok (.iload_n 3, 1) := dk_29 (dk_at dksX2_edgeSum_4 3 rfl rfl)
theorem dX2_edgeSum_96 : decode cX2_edgeSum 96 = .ok (.iaload, 1) := dk_46 (dk_at dksX2_edgeSum_4 4 rfl rfl)
theorem dX2_edgeSum_97 : decode cX2_edgeSum 97 = .ok (.aload_n 0, 1) := dk_42 (dk_at dksX2_edgeSum_4 5 rfl rfl)
theorem dX2_edgeSum_98 : decode cX2_edgeSum 98 = .ok (.getfield 39, 3) := dk_180 0 39 (dk_at dksX2_edgeSum_4 6 rfl rfl)
theorem dX2_edgeSum_101 : decode cX2_edgeSum 101 = .ok (.iload_n 3, 1) := dk_29 (dk_at dksX2_edgeSum_4 9 rfl rfl)
theorem dX2_edgeSum_102 : decode cX2_edgeSum 102 = .ok (.iaload, 1) := dk_46 (dk_at dksX2_edgeSum_4 10 rfl rfl)
theorem dX2_edgeSum_103 : decode cX2_edgeSum 103 = .ok (.imul, 1) := dk_104 (dk_at dksX2_edgeSum_4 11 rfl rfl)
theorem dX2_edgeSum_104 : decode cX2_edgeSum 104 = .ok (.iadd, 1) := dk_96 (dk_at dksX2_edgeSum_4 12 rfl rfl)
theorem dX2_edgeSum_105 : decode cX2_edgeSum 105 = .ok (.istore_n 2, 1) := dk_61 (dk_at dksX2_edgeSum_4 13 rfl rfl)
theorem dX2_edgeSum_106 : decode cX2_edgeSum 106 = .ok (.iinc 3 1, 3) := dk_132 3 1 (dk_at dksX2_edgeSum_4 14 rfl rfl)
theorem dX2_edgeSum_109 : decode cX2_edgeSum 109 = .ok (.goto (-25), 3) := dk_167 255 231 (dk_at dksX2_edgeSum_4 17 rfl rfl)
theorem dX2_edgeSum_112 : decode cX2_edgeSum 112 = .ok (.iload_n 2, 1) := dk_28 (dk_at dksX2_edgeSum_4 20 rfl rfl)
theorem dX2_edgeSum_113 : decode cX2_edgeSum 113 = .ok (.ireturn, 1) := dk_172 (dk_at dksX2_edgeSum_4 21 rfl rfl)
abbrev cX2_wordAt : ByteArray := prog_11_method_17_code
def yX2_wordAt : MethodName := ⟨RX2, "wordAt", "(II)I"⟩
def dkwX2_wordAt_0 : List UInt8 := [42, 42, 180, 0, 26, 27, 46, 42, 180, 0, 29, 27, 46, 28, 96, 182, 0, 170, 172]
abbrev dktX2_wordAt_0 : List UInt8 := dkwX2_wordAt_0 ++ []
theorem dksX2_wordAt_0 : cX2_wordAt.data.toList.drop 0 = dktX2_wordAt_0 := by decide +kernel
theorem dX2_wordAt_0 : decode cX2_wordAt 0 = .ok (.aload_n 0, 1) := dk_42 (dk_at dksX2_wordAt_0 0 rfl rfl)
theorem dX2_wordAt_1 : decode cX2_wordAt 1 = .ok (.aload_n 0, 1) := dk_42 (dk_at dksX2_wordAt_0 1 rfl rfl)
theorem dX2_wordAt_2 : decode cX2_wordAt 2 = .ok (.getfield 26, 3) := dk_180 0 26 (dk_at dksX2_wordAt_0 2 rfl rfl)
theorem dX2_wordAt_5 : decode cX2_wordAt 5 = .ok (.iload_n 1, 1) := dk_27 (dk_at dksX2_wordAt_0 5 rfl rfl)
theorem dX2_wordAt_6 : decode cX2_wordAt 6 = .ok (.iaload, 1) := dk_46 (dk_at dksX2_wordAt_0 6 rfl rfl)
theorem dX2_wordAt_7 : decode cX2_wordAt 7 = .ok (.aload_n 0, 1) := dk_42 (dk_at dksX2_wordAt_0 7 rfl rfl)
theorem dX2_wordAt_8 : decode cX2_wordAt 8 = .ok (.getfield 29, 3) := dk_180 0 29 (dk_at dksX2_wordAt_0 8 rfl rfl)
theorem dX2_wordAt_11 : decode cX2_wordAt 11 = .ok (.iload_n 1, 1) := dk_27 (dk_at dksX2_wordAt_0 11 rfl rfl)
theorem dX2_wordAt_12 : decode cX2_wordAt 12 = .ok (.iaload, 1) := dk_46 (dk_at dksX2_wordAt_0 12 rfl rfl)
theorem dX2_wordAt_13 : decode cX2_wordAt 13 = .ok (.iload_n 2, 1) := dk_28 (dk_at dksX2_wordAt_0 13 rfl rfl)
theorem dX2_wordAt_14 : decode cX2_wordAt 14 = .ok (.iadd, 1) := dk_96 (dk_at dksX2_wordAt_0 14 rfl rfl)
theorem dX2_wordAt_15 : decode cX2_wordAt 15 = .ok (.invokevirtual 170, 3) := dk_182 0 170 (dk_at dksX2_wordAt_0 15 rfl rfl)
theorem dX2_wordAt_18 : decode cX2_wordAt 18 = .ok (.ireturn, 1) := dk_172 (dk_at dksX2_wordAt_0 18 rfl rfl)
abbrev cX2_akin : ByteArray := prog_11_method_30_code
def yX2_akin : MethodName := ⟨RX2, "akin", "(II)I"⟩
def dkwX2_akin_1 : List UInt8 := [182, 0, 213, 42, 180, 0, 45, 16, 24, 27, 104, 28, 96, 46, 172]
abbrev dktX2_akin_1 : List UInt8 := dkwX2_akin_1 ++ []
def dkwX2_akin_0 : List UInt8 := [42, 27, 182, 0, 184, 153, 0, 16, 42, 28, 182, 0, 184, 153, 0, 8, 27, 28, 160, 0, 5, 2, 172, 42]
abbrev dktX2_akin_0 : List UInt8 := dkwX2_akin_0 ++ dktX2_akin_1
theorem dksX2_akin_0 : cX2_akin.data.toList.drop 0 = dktX2_akin_0 := by decide +kernel
theorem dksX2_akin_1 : cX2_akin.data.toList.drop 24 = dktX2_akin_1 := dk_seg dksX2_akin_0 24 rfl rfl
theorem dX2_akin_0 : decode cX2_akin 0 = .ok (.aload_n 0, 1) := dk_42 (dk_at dksX2_akin_0 0 rfl rfl)
theorem dX2_akin_1 : decode cX2_akin 1 = .ok (.iload_n 1, 1) := dk_27 (dk_at dksX2_akin_0 1 rfl rfl)
theorem dX2_akin_2 : decode cX2_akin 2 = .ok (.invokevirtual 184, 3) := dk_182 0 184 (dk_at dksX2_akin_0 2 rfl rfl)
theorem dX2_akin_5 : decode cX2_akin 5 = .ok (.ifCond .eq 16, 3) := dk_153 0 16 (dk_at dksX2_akin_0 5 rfl rfl)
theorem dX2_akin_8 : decode cX2_akin 8 = .ok (.aload_n 0, 1) := dk_42 (dk_at dksX2_akin_0 8 rfl rfl)
theorem dX2_akin_9 : decode cX2_akin 9 = .ok (.iload_n 2, 1) := dk_28 (dk_at dksX2_akin_0 9 rfl rfl)
theorem dX2_akin_10 : decode cX2_akin 10 = .ok (.invokevirtual 184, 3) := dk_182 0 184 (dk_at dksX2_akin_0 10 rfl rfl)
theorem dX2_akin_13 : decode cX2_akin 13 = .ok (.ifCond .eq 8, 3) := dk_153 0 8 (dk_at dksX2_akin_0 13 rfl rfl)
theorem dX2_akin_16 : decode cX2_akin 16 = .ok (.iload_n 1, 1) := dk_27 (dk_at dksX2_akin_0 16 rfl rfl)
theorem dX2_akin_17 : decode cX2_akin 17 = .ok (.iload_n 2, 1) := dk_28 (dk_at dksX2_akin_0 17 rfl rfl)
theorem dX2_akin_18 : decode cX2_akin 18 = .ok (.if_icmp .ne 5, 3) := dk_160 0 5 (dk_at dksX2_akin_0 18 rfl rfl)
theorem dX2_akin_21 : decode cX2_akin 21 = .ok (.iconst (-1), 1) := dk_2 (dk_at dksX2_akin_0 21 rfl rfl)
theorem dX2_akin_22 : decode cX2_akin 22 = .ok (.ireturn, 1) := dk_172 (dk_at dksX2_akin_0 22 rfl rfl)
theorem dX2_akin_23 : decode cX2_akin 23 = .ok (.aload_n 0, 1) := dk_42 (dk_at dksX2_akin_0 23 rfl rfl)
theorem dX2_akin_24 : decode cX2_akin 24 = .ok (.invokevirtual 213, 3) := dk_182 0 213 (dk_at dksX2_akin_1 0 rfl rfl)
theorem dX2_akin_27 : decode cX2_akin 27 = .ok (.aload_n 0, 1) := dk_42 (dk_at dksX2_akin_1 3 rfl rfl)
theorem dX2_akin_28 : decode cX2_akin 28 = .ok (.getfield 45, 3) := dk_180 0 45 (dk_at dksX2_akin_1 4 rfl rfl)
theorem dX2_akin_31 : decode cX2_akin 31 = .ok (.bipush 24, 2) := dk_16 24 (dk_at dksX2_akin_1 7 rfl rfl)
theorem dX2_akin_33 : decode cX2_akin 33 = .ok (.iload_n 1, 1) := dk_27 (dk_at dksX2_akin_1 9 rfl rfl)
theorem dX2_akin_34 : decode cX2_akin 34 = .ok (.imul, 1) := dk_104 (dk_at dksX2_akin_1 10 rfl rfl)
theorem dX2_akin_35 : decode cX2_akin 35 = .ok (.iload_n 2, 1) := dk_28 (dk_at dksX2_akin_1 11 rfl rfl)
theorem dX2_akin_36 : decode cX2_akin 36 = .ok (.iadd, 1) := dk_96 (dk_at dksX2_akin_1 12 rfl rfl)
theorem dX2_akin_37 : decode cX2_akin 37 = .ok (.iaload, 1) := dk_46 (dk_at dksX2_akin_1 13 rfl rfl)
theorem dX2_akin_38 : decode cX2_akin 38 = .ok (.ireturn, 1) := dk_172 (dk_at dksX2_akin_1 14 rfl rfl)
abbrev cX2_findAkins : ByteArray := prog_11_method_29_code
def yX2_findAkins : MethodName := ⟨RX2, "findAkins", "()V"⟩
def dkwX2_findAkins_7 : List UInt8 := [79, 132, 2, 1, 167, 255, 126, 132, 1, 1, 167, 255, 110, 177]
abbrev dktX2_findAkins_7 : List UInt8 := dkwX2_findAkins_7 ++ []
def dkwX2_findAkins_6 : List UInt8 := [21, 5, 96, 92, 46, 4, 96, 79, 42, 180, 0, 45, 16, 24, 21, 5, 104, 21, 4, 96, 92, 46, 4, 96]
abbrev dktX2_findAkins_6 : List UInt8 := dkwX2_findAkins_6 ++ dktX2_findAkins_7
def dkwX2_findAkins_5 : List UInt8 := [182, 0, 200, 54, 4, 42, 28, 29, 4, 100, 182, 0, 200, 54, 5, 42, 180, 0, 45, 16, 24, 21, 4, 104]
abbrev dktX2_findAkins_5 : List UInt8 := dkwX2_findAkins_5 ++ dktX2_findAkins_6
def dkwX2_findAkins_4 : List UInt8 := [160, 0, 73, 42, 27, 182, 0, 210, 153, 0, 65, 42, 28, 182, 0, 210, 153, 0, 57, 42, 27, 29, 4, 100]
abbrev dktX2_findAkins_4 : List UInt8 := dkwX2_findAkins_4 ++ dktX2_findAkins_5
def dkwX2_findAkins_3 : List UInt8 := [180, 0, 32, 28, 46, 29, 160, 0, 90, 29, 4, 164, 0, 85, 42, 27, 28, 182, 0, 207, 29, 4, 100]
abbrev dktX2_findAkins_3 : List UInt8 := dkwX2_findAkins_3 ++ dktX2_findAkins_4
def dkwX2_findAkins_2 : List UInt8 := [27, 46, 62, 42, 180, 0, 35, 27, 51, 153, 0, 109, 42, 180, 0, 35, 28, 51, 153, 0, 100, 42]
abbrev dktX2_findAkins_2 : List UInt8 := dkwX2_findAkins_2 ++ dktX2_findAkins_3
def dkwX2_findAkins_1 : List UInt8 := [167, 255, 239, 3, 60, 27, 42, 180, 0, 167, 162, 0, 144, 3, 61, 28, 27, 162, 0, 131, 42, 180, 0, 32]
abbrev dktX2_findAkins_1 : List UInt8 := dkwX2_findAkins_1 ++ dktX2_findAkins_2
def dkwX2_findAkins_0 : List UInt8 := [42, 182, 0, 181, 3, 60, 27, 17, 2, 64, 162, 0, 16, 42, 180, 0, 45, 27, 3, 79, 132, 1, 1]
abbrev dktX2_findAkins_0 : List UInt8 := dkwX2_findAkins_0 ++ dktX2_findAkins_1
theorem dksX2_findAkins_0 : cX2_findAkins.data.toList.drop 0 = dktX2_findAkins_0 := by decide +kernel
theorem dksX2_findAkins_1 : cX2_findAkins.data.toList.drop 23 = dktX2_findAkins_1 := dk_seg dksX2_findAkins_0 23 rfl rfl
theorem dksX2_findAkins_2 : cX2_findAkins.data.toList.drop 47 = dktX2_findAkins_2 := dk_seg dksX2_findAkins_1 24 rfl rfl
theorem dksX2_findAkins_3 : cX2_findAkins.data.toList.drop 69 = dktX2_findAkins_3 := dk_seg dksX2_findAkins_2 22 rfl rfl
theorem dksX2_findAkins_4 : cX2_findAkins.data.toList.drop 92 = dktX2_findAkins_4 := dk_seg dksX2_findAkins_3 23 rfl rfl
theorem dksX2_findAkins_5 : cX2_findAkins.data.toList.drop 116 = dktX2_findAkins_5 := dk_seg dksX2_findAkins_4 24 rfl rfl
theorem dksX2_findAkins_6 : cX2_findAkins.data.toList.drop 140 = dktX2_findAkins_6 := dk_seg dksX2_findAkins_5 24 rfl rfl
theorem dksX2_findAkins_7 : cX2_findAkins.data.toList.drop 164 = dktX2_findAkins_7 := dk_seg dksX2_findAkins_6 24 rfl rfl
theorem dX2_findAkins_0 : decode cX2_findAkins 0 = .ok (.aload_n 0, 1) := dk_42 (dk_at dksX2_findAkins_0 0 rfl rfl)
theorem dX2_findAkins_1 : decode cX2_findAkins 1 = .ok (.invokevirtual 181, 3) := dk_182 0 181 (dk_at dksX2_findAkins_0 1 rfl rfl)
theorem dX2_findAkins_4 : decode cX2_findAkins 4 = .ok (.iconst 0, 1) := dk_3 (dk_at dksX2_findAkins_0 4 rfl rfl)
theorem dX2_findAkins_5 : decode cX2_findAkins 5 = .ok (.istore_n 1, 1) := dk_60 (dk_at dksX2_findAkins_0 5 rfl rfl)
theorem dX2_findAkins_6 : decode cX2_findAkins 6 = .ok (.iload_n 1, 1) := dk_27 (dk_at dksX2_findAkins_0 6 rfl rfl)
theorem dX2_findAkins_7 : decode cX2_findAkins 7 = .ok (.sipush 576, 3) := dk_17 2 64 (dk_at dksX2_findAkins_0 7 rfl rfl)
theorem dX2_findAkins_10 : decode cX2_findAkins 10 = .ok (.if_icmp .ge 16, 3) := dk_162 0 16 (dk_at dksX2_findAkins_0 10 rfl rfl)
theorem dX2_findAkins_13 : decode cX2_findAkins 13 = .ok (.aload_n 0, 1) := dk_42 (dk_at dksX2_findAkins_0 13 rfl rfl)
theorem dX2_findAkins_14 : decode cX2_findAkins 14 = .ok (.getfield 45, 3) := dk_180 0 45 (dk_at dksX2_findAkins_0 14 rfl rfl)
theorem dX2_findAkins_17 : decode cX2_findAkins 17 = .ok (.iload_n 1, 1) := dk_27 (dk_at dksX2_findAkins_0 17 rfl rfl)
theorem dX2_findAkins_18 : decode cX2_findAkins 18 = .ok (.iconst 0, 1) := dk_3 (dk_at dksX2_findAkins_0 18 rfl rfl)
theorem dX2_findAkins_19 : decode cX2_findAkins 19 = .ok (.iastore, 1) := dk_79 (dk_at dksX2_findAkins_0 19 rfl rfl)
theorem dX2_findAkins_20 : decode cX2_findAkins 20 = .ok (.iinc 1 1, 3) := dk_132 1 1 (dk_at dksX2_findAkins_0 20 rfl rfl)
theorem dX2_findAkins_23 : decode cX2_findAkins 23 = .ok (.goto (-17), 3) := dk_167 255 239 (dk_at dksX2_findAkins_1 0 rfl rfl)
theorem dX2_findAkins_26 : decode cX2_findAkins 26 = .ok (.iconst 0, 1) := dk_3 (dk_at dksX2_findAkins_1 3 rfl rfl)
theorem dX2_findAkins_27 : decode cX2_findAkins 27 = .ok (.istore_n 1, 1) := dk_60 (dk_at dksX2_findAkins_1 4 rfl rfl)
theorem dX2_findAkins_28 : decode cX2_findAkins 28 = .ok (.iload_n 1, 1) := dk_27 (dk_at dksX2_findAkins_1 5 rfl rfl)
theorem dX2_findAkins_29 : decode cX2_findAkins 29 = .ok (.aload_n 0, 1) := dk_42 (dk_at dksX2_findAkins_1 6 rfl rfl)
theorem dX2_findAkins_30 : decode cX2_findAkins 30 = .ok (.getfield 167, 3) := dk_180 0 167 (dk_at dksX2_findAkins_1 7 rfl rfl)
theorem dX2_findAkins_33 : decode cX2_findAkins 33 = .ok (.if_icmp .ge 144, 3) := dk_162 0 144 (dk_at dksX2_findAkins_1 10 rfl rfl)
theorem dX2_findAkins_36 : decode cX2_findAkins 36 = .ok (.iconst 0, 1) := dk_3 (dk_at dksX2_findAkins_1 13 rfl rfl)
theorem dX2_findAkins_37 : decode cX2_findAkins 37 = .ok (.istore_n 2, 1) := dk_61 (dk_at dksX2_findAkins_1 14 rfl rfl)
theorem dX2_findAkins_38 : decode cX2_findAkins 38 = .ok (.iload_n 2, 1) := dk_28 (dk_at dksX2_findAkins_1 15 rfl rfl)
theorem dX2_findAkins_39 : decode cX2_findAkins 39 = .ok (.iload_n 1, 1) := dk_27 (dk_at dksX2_findAkins_1 16 rfl rfl)
theorem dX2_findAkins_40 : decode cX2_findAkins 40 = .ok (.if_icmp .ge 131, 3) := dk_162 0 131 (dk_at dksX2_findAkins_1 17 rfl rfl)
theorem dX2_findAkins_43 : decode cX2_findAkins 43 = .ok (.aload_n 0, 1) := dk_42 (dk_at dksX2_findAkins_1 20 rfl rfl)
theorem dX2_findAkins_44 : decode cX2_findAkins 44 = .ok (.getfield 32, 3) := dk_180 0 32 (dk_at dksX2_findAkins_1 21 rfl rfl)
theorem dX2_findAkins_47 : decode cX2_findAkins 47 = .ok (.iload_n 1, 1) := dk_27 (dk_at dksX2_findAkins_2 0 rfl rfl)
theorem dX2_findAkins_48 : decode cX2_findAkins 48 = .ok (.iaload, 1) := dk_46 (dk_at dksX2_findAkins_2 1 rfl rfl)
theorem dX2_findAkins_49 : decode cX2_findAkins 49 = .ok (.istore_n 3, 1) := dk_62 (dk_at dksX2_findAkins_2 2 rfl rfl)
theorem dX2_findAkins_50 : decode cX2_findAkins 50 = .ok (.aload_n 0, 1) := dk_42 (dk_at dksX2_findAkins_2 3 rfl rfl)
theorem dX2_findAkins_51 : decode cX2_findAkins 51 = .ok (.getfield 35, 3) := dk_180 0 35 (dk_at dksX2_findAkins_2 4 rfl rfl)
theorem dX2_findAkins_54 : decode cX2_findAkins 54 = .ok (.iload_n 1, 1) := dk_27 (dk_at dksX2_findAkins_2 7 rfl rfl)
theorem dX2_findAkins_55 : decode cX2_findAkins 55 = .ok (.baload, 1) := dk_51 (dk_at dksX2_findAkins_2 8 rfl rfl)
theorem dX2_findAkins_56 : decode cX2_findAkins 56 = .ok (.ifCond .eq 109, 3) := dk_153 0 109 (dk_at dksX2_findAkins_2 9 rfl rfl)
theorem dX2_findAkins_59 : decode cX2_findAkins 59 = .ok (.aload_n 0, 1) := dk_42 (dk_at dksX2_findAkins_2 12 rfl rfl)
theorem dX2_findAkins_60 : decode cX2_findAkins 60 = .ok (.getfield 35, 3) := dk_180 0 35 (dk_at dksX2_findAkins_2 13 rfl rfl)
theorem dX2_findAkins_63 : decode cX2_findAkins 63 = .ok (.iload_n 2, 1) := dk_28 (dk_at dksX2_findAkins_2 16 rfl rfl)
theorem dX2_findAkins_64 : decode cX2_findAkins 64 = .ok (.baload, 1) := dk_51 (dk_at dksX2_findAkins_2 17 rfl rfl)
theorem dX2_findAkins_65 : decode cX2_findAkins 65 = .ok (.ifCond .eq 100, 3) := dk_153 0 100 (dk_at dksX2_findAkins_2 18 rfl rfl)
theorem dX2_findAkins_68 : decode cX2_findAkins 68 = .ok (.aload_n 0, 1) := dk_42 (dk_at dksX2_findAkins_2 21 rfl rfl)
theorem dX2_findAkins_69 : decode cX2_findAkins 69 = .ok (.getfield 32, 3) := dk_180 0 32 (dk_at dksX2_findAkins_3 0 rfl rfl)
theorem dX2_findAkins_72 : decode cX2_findAkins 72 = .ok (.iload_n 2, 1) := dk_28 (dk_at dksX2_findAkins_3 3 rfl rfl)
theorem dX2_findAkins_73 : decode cX2_findAkins 73 = .ok (.iaload, 1) := dk_46 (dk_at dksX2_findAkins_3 4 rfl rfl)
theorem dX2_findAkins_74 : decode cX2_findAkins 74 = .ok (.iload_n 3, 1) := dk_29 (dk_at dksX2_findAkins_3 5 rfl rfl)
theorem dX2_findAkins_75 : decode cX2_findAkins 75 = .ok (.if_icmp .ne 90, 3) := dk_160 0 90 (dk_at dksX2_findAkins_3 6 rfl rfl)
theorem dX2_findAkins_78 : decode cX2_findAkins 78 = .ok (.iload_n 3, 1) := dk_29 (dk_at dksX2_findAkins_3 9 rfl rfl)
theorem dX2_findAkins_79 : decode cX2_findAkins 79 = .ok (.iconst 1, 1) := dk_4 (dk_at dksX2_findAkins_3 10 rfl rfl)
theorem dX2_findAkins_80 : decode cX2_findAkins 80 = .ok (.if_icmp .le 85, 3) := dk_164 0 85 (dk_at dksX2_findAkins_3 11 rfl rfl)
theorem dX2_findAkins_83 : decode cX2_findAkins 83 = .ok (.aload_n 0, 1) := dk_42 (dk_at dksX2_findAkins_3 14 rfl rfl)
theorem dX2_findAkins_84 : decode cX2_findAkins 84 = .ok (.iload_n 1, 1) := dk_27 (dk_at dksX2_findAkins_3 15 rfl rfl)
theorem dX2_findAkins_85 : decode cX2_findAkins 85 = .ok (.iload_n 2, 1) := dk_28 (dk_at dksX2_findAkins_3 16 rfl rfl)
theorem dX2_findAkins_86 : decode cX2_findAkins 86 = .ok (.invokevirtual 207, 3) := dk_182 0 207 (dk_at dksX2_findAkins_3 17 rfl rfl)
theorem dX2_findAkins_89 : decode cX2_findAkins 89 = .ok (.iload_n 3, 1) := dk_29 (dk_at dksX2_findAkins_3 20 rfl rfl)
theorem dX2_findAkins_90 : decode cX2_findAkins 90 = .ok (.iconst 1, 1) := dk_4 (dk_at dksX2_findAkins_3 21 rfl rfl)
theorem dX2_findAkins_91 : decode cX2_findAkins 91 = .ok (.isub, 1) := dk_100 (dk_at dksX2_findAkins_3 22 rfl rfl)
theorem dX2_findAkins_92 : decode cX2_findAkins 92 = .ok (.if_icmp .ne 73, 3) := dk_160 0 73 (dk_at dksX2_findAkins_4 0 rfl rfl)
theorem dX2_findAkins_95 : decode cX2_findAkins 95 = .ok (.aload_n 0, 1) := dk_42 (dk_at dksX2_findAkins_4 3 rfl rfl)
theorem dX2_findAkins_96 : decode cX2_findAkins 96 = .ok (.iload_n 1, 1) := dk_27 (dk_at dksX2_findAkins_4 4 rfl rfl)
theorem dX2_findAkins_97 : decode cX2_findAkins 97 = .ok (.invokevirtual 210, 3) := dk_182 0 210 (dk_at dksX2_findAkins_4 5 rfl rfl)
theorem dX2_findAkins_100 : decode cX2_findAkins 100 = .ok (.ifCond .eq 65, 3) := dk_153 0 65 (dk_at dksX2_findAkins_4 8 rfl rfl)
theorem dX2_findAkins_103 : decode cX2_findAkins 103 = .ok (.aload_n 0, 1) := dk_42 (dk_at dksX2_findAkins_4 11 rfl rfl)
theorem dX2_findAkins_104 : decode cX2_findAkins 104 = .ok (.iload_n 2, 1) := dk_28 (dk_at dksX2_findAkins_4 12 rfl rfl)
