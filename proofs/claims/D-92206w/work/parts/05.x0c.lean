set_option maxRecDepth 100000
theorem dX0_shuffle_128 : decode cX0_shuffle 128 = .ok (.goto (-45), 3) := dk_167 255 211 (dk_at dksX0_shuffle_5 9 rfl rfl)
theorem dX0_shuffle_131 : decode cX0_shuffle 131 = .ok (.return_, 1) := dk_177 (dk_at dksX0_shuffle_5 12 rfl rfl)
abbrev cX0_feed : ByteArray := prog_1_method_59_code
def yX0_feed : MethodName := ⟨RX0, "feed", "(J)I"⟩
def dkwX0_feed_2 : List UInt8 := [132, 3, 248, 167, 255, 225, 42, 180, 1, 73, 172]
abbrev dktX0_feed_2 : List UInt8 := dkwX0_feed_2 ++ []
def dkwX0_feed_1 : List UInt8 := [180, 1, 76, 42, 180, 1, 73, 31, 29, 123, 136, 145, 84, 42, 89, 180, 1, 73, 4, 96, 181, 1, 73]
abbrev dktX0_feed_1 : List UInt8 := dkwX0_feed_1 ++ dktX0_feed_2
def dkwX0_feed_0 : List UInt8 := [42, 180, 1, 73, 16, 8, 96, 17, 0, 160, 164, 0, 6, 16, 253, 172, 16, 56, 62, 29, 155, 0, 33, 42]
abbrev dktX0_feed_0 : List UInt8 := dkwX0_feed_0 ++ dktX0_feed_1
theorem dksX0_feed_0 : cX0_feed.data.toList.drop 0 = dktX0_feed_0 := by decide +kernel
theorem dksX0_feed_1 : cX0_feed.data.toList.drop 24 = dktX0_feed_1 := dk_seg dksX0_feed_0 24 rfl rfl
theorem dksX0_feed_2 : cX0_feed.data.toList.drop 47 = dktX0_feed_2 := dk_seg dksX0_feed_1 23 rfl rfl
theorem dX0_feed_0 : decode cX0_feed 0 = .ok (.aload_n 0, 1) := dk_42 (dk_at dksX0_feed_0 0 rfl rfl)
theorem dX0_feed_1 : decode cX0_feed 1 = .ok (.getfield 329, 3) := dk_180 1 73 (dk_at dksX0_feed_0 1 rfl rfl)
theorem dX0_feed_4 : decode cX0_feed 4 = .ok (.bipush 8, 2) := dk_16 8 (dk_at dksX0_feed_0 4 rfl rfl)
theorem dX0_feed_6 : decode cX0_feed 6 = .ok (.iadd, 1) := dk_96 (dk_at dksX0_feed_0 6 rfl rfl)
theorem dX0_feed_7 : decode cX0_feed 7 = .ok (.sipush 160, 3) := dk_17 0 160 (dk_at dksX0_feed_0 7 rfl rfl)
theorem dX0_feed_10 : decode cX0_feed 10 = .ok (.if_icmp .le 6, 3) := dk_164 0 6 (dk_at dksX0_feed_0 10 rfl rfl)
theorem dX0_feed_13 : decode cX0_feed 13 = .ok (.bipush (-3), 2) := dk_16 253 (dk_at dksX0_feed_0 13 rfl rfl)
theorem dX0_feed_15 : decode cX0_feed 15 = .ok (.ireturn, 1) := dk_172 (dk_at dksX0_feed_0 15 rfl rfl)
theorem dX0_feed_16 : decode cX0_feed 16 = .ok (.bipush 56, 2) := dk_16 56 (dk_at dksX0_feed_0 16 rfl rfl)
theorem dX0_feed_18 : decode cX0_feed 18 = .ok (.istore_n 3, 1) := dk_62 (dk_at dksX0_feed_0 18 rfl rfl)
theorem dX0_feed_19 : decode cX0_feed 19 = .ok (.iload_n 3, 1) := dk_29 (dk_at dksX0_feed_0 19 rfl rfl)
theorem dX0_feed_20 : decode cX0_feed 20 = .ok (.ifCond .lt 33, 3) := dk_155 0 33 (dk_at dksX0_feed_0 20 rfl rfl)
theorem dX0_feed_23 : decode cX0_feed 23 = .ok (.aload_n 0, 1) := dk_42 (dk_at dksX0_feed_0 23 rfl rfl)
theorem dX0_feed_24 : decode cX0_feed 24 = .ok (.getfield 332, 3) := dk_180 1 76 (dk_at dksX0_feed_1 0 rfl rfl)
theorem dX0_feed_27 : decode cX0_feed 27 = .ok (.aload_n 0, 1) := dk_42 (dk_at dksX0_feed_1 3 rfl rfl)
theorem dX0_feed_28 : decode cX0_feed 28 = .ok (.getfield 329, 3) := dk_180 1 73 (dk_at dksX0_feed_1 4 rfl rfl)
theorem dX0_feed_31 : decode cX0_feed 31 = .ok (.lload_n 1, 1) := dk_31 (dk_at dksX0_feed_1 7 rfl rfl)
theorem dX0_feed_32 : decode cX0_feed 32 = .ok (.iload_n 3, 1) := dk_29 (dk_at dksX0_feed_1 8 rfl rfl)
theorem dX0_feed_33 : decode cX0_feed 33 = .ok (.lshr, 1) := dk_123 (dk_at dksX0_feed_1 9 rfl rfl)
theorem dX0_feed_34 : decode cX0_feed 34 = .ok (.l2i, 1) := dk_136 (dk_at dksX0_feed_1 10 rfl rfl)
theorem dX0_feed_35 : decode cX0_feed 35 = .ok (.i2b, 1) := dk_145 (dk_at dksX0_feed_1 11 rfl rfl)
theorem dX0_feed_36 : decode cX0_feed 36 = .ok (.bastore, 1) := dk_84 (dk_at dksX0_feed_1 12 rfl rfl)
theorem dX0_feed_37 : decode cX0_feed 37 = .ok (.aload_n 0, 1) := dk_42 (dk_at dksX0_feed_1 13 rfl rfl)
theorem dX0_feed_38 : decode cX0_feed 38 = .ok (.dup, 1) := dk_89 (dk_at dksX0_feed_1 14 rfl rfl)
theorem dX0_feed_39 : decode cX0_feed 39 = .ok (.getfield 329, 3) := dk_180 1 73 (dk_at dksX0_feed_1 15 rfl rfl)
theorem dX0_feed_42 : decode cX0_feed 42 = .ok (.iconst 1, 1) := dk_4 (dk_at dksX0_feed_1 18 rfl rfl)
theorem dX0_feed_43 : decode cX0_feed 43 = .ok (.iadd, 1) := dk_96 (dk_at dksX0_feed_1 19 rfl rfl)
theorem dX0_feed_44 : decode cX0_feed 44 = .ok (.putfield 329, 3) := dk_181 1 73 (dk_at dksX0_feed_1 20 rfl rfl)
theorem dX0_feed_47 : decode cX0_feed 47 = .ok (.iinc 3 (-8), 3) := dk_132 3 248 (dk_at dksX0_feed_2 0 rfl rfl)
theorem dX0_feed_50 : decode cX0_feed 50 = .ok (.goto (-31), 3) := dk_167 255 225 (dk_at dksX0_feed_2 3 rfl rfl)
theorem dX0_feed_53 : decode cX0_feed 53 = .ok (.aload_n 0, 1) := dk_42 (dk_at dksX0_feed_2 6 rfl rfl)
theorem dX0_feed_54 : decode cX0_feed 54 = .ok (.getfield 329, 3) := dk_180 1 73 (dk_at dksX0_feed_2 7 rfl rfl)
theorem dX0_feed_57 : decode cX0_feed 57 = .ok (.ireturn, 1) := dk_172 (dk_at dksX0_feed_2 10 rfl rfl)
abbrev cX0_end : ByteArray := prog_1_method_60_code
def yX0_end : MethodName := ⟨RX0, "end", "(I)I"⟩
def dkwX0_end_1 : List UInt8 := [181, 1, 73, 28, 172]
abbrev dktX0_end_1 : List UInt8 := dkwX0_end_1 ++ []
def dkwX0_end_0 : List UInt8 := [27, 133, 9, 42, 180, 1, 73, 133, 184, 0, 5, 154, 0, 5, 2, 172, 42, 180, 1, 73, 61, 42, 27]
abbrev dktX0_end_0 : List UInt8 := dkwX0_end_0 ++ dktX0_end_1
theorem dksX0_end_0 : cX0_end.data.toList.drop 0 = dktX0_end_0 := by decide +kernel
theorem dksX0_end_1 : cX0_end.data.toList.drop 23 = dktX0_end_1 := dk_seg dksX0_end_0 23 rfl rfl
theorem dX0_end_0 : decode cX0_end 0 = .ok (.iload_n 1, 1) := dk_27 (dk_at dksX0_end_0 0 rfl rfl)
theorem dX0_end_1 : decode cX0_end 1 = .ok (.i2l, 1) := dk_133 (dk_at dksX0_end_0 1 rfl rfl)
theorem dX0_end_2 : decode cX0_end 2 = .ok (.lconst 0, 1) := dk_9 (dk_at dksX0_end_0 2 rfl rfl)
theorem dX0_end_3 : decode cX0_end 3 = .ok (.aload_n 0, 1) := dk_42 (dk_at dksX0_end_0 3 rfl rfl)
theorem dX0_end_4 : decode cX0_end 4 = .ok (.getfield 329, 3) := dk_180 1 73 (dk_at dksX0_end_0 4 rfl rfl)
theorem dX0_end_7 : decode cX0_end 7 = .ok (.i2l, 1) := dk_133 (dk_at dksX0_end_0 7 rfl rfl)
theorem dX0_end_8 : decode cX0_end 8 = .ok (.invokestatic 5, 3) := dk_184 0 5 (dk_at dksX0_end_0 8 rfl rfl)
theorem dX0_end_11 : decode cX0_end 11 = .ok (.ifCond .ne 5, 3) := dk_154 0 5 (dk_at dksX0_end_0 11 rfl rfl)
theorem dX0_end_14 : decode cX0_end 14 = .ok (.iconst (-1), 1) := dk_2 (dk_at dksX0_end_0 14 rfl rfl)
theorem dX0_end_15 : decode cX0_end 15 = .ok (.ireturn, 1) := dk_172 (dk_at dksX0_end_0 15 rfl rfl)
theorem dX0_end_16 : decode cX0_end 16 = .ok (.aload_n 0, 1) := dk_42 (dk_at dksX0_end_0 16 rfl rfl)
theorem dX0_end_17 : decode cX0_end 17 = .ok (.getfield 329, 3) := dk_180 1 73 (dk_at dksX0_end_0 17 rfl rfl)
theorem dX0_end_20 : decode cX0_end 20 = .ok (.istore_n 2, 1) := dk_61 (dk_at dksX0_end_0 20 rfl rfl)
theorem dX0_end_21 : decode cX0_end 21 = .ok (.aload_n 0, 1) := dk_42 (dk_at dksX0_end_0 21 rfl rfl)
theorem dX0_end_22 : decode cX0_end 22 = .ok (.iload_n 1, 1) := dk_27 (dk_at dksX0_end_0 22 rfl rfl)
theorem dX0_end_23 : decode cX0_end 23 = .ok (.putfield 329, 3) := dk_181 1 73 (dk_at dksX0_end_1 0 rfl rfl)
theorem dX0_end_26 : decode cX0_end 26 = .ok (.iload_n 2, 1) := dk_28 (dk_at dksX0_end_1 3 rfl rfl)
theorem dX0_end_27 : decode cX0_end 27 = .ok (.ireturn, 1) := dk_172 (dk_at dksX0_end_1 4 rfl rfl)
abbrev cX0_claims : ByteArray := prog_1_method_61_code
def yX0_claims : MethodName := ⟨RX0, "claims", "()I"⟩
def dkwX0_claims_3 : List UInt8 := [16, 246, 45, 180, 1, 99, 100, 172]
abbrev dktX0_claims_3 : List UInt8 := dkwX0_claims_3 ++ []
def dkwX0_claims_2 : List UInt8 := [181, 1, 91, 42, 180, 1, 80, 28, 100, 172, 78, 42, 28, 181, 1, 80, 42, 45, 180, 1, 96, 181, 1, 91]
abbrev dktX0_claims_2 : List UInt8 := dkwX0_claims_2 ++ dktX0_claims_3
def dkwX0_claims_1 : List UInt8 := [181, 1, 73, 42, 180, 1, 80, 61, 187, 1, 83, 89, 42, 43, 183, 1, 85, 182, 1, 88, 42, 3]
abbrev dktX0_claims_1 : List UInt8 := dkwX0_claims_1 ++ dktX0_claims_2
def dkwX0_claims_0 : List UInt8 := [42, 180, 1, 73, 188, 8, 76, 42, 180, 1, 76, 3, 43, 3, 42, 180, 1, 73, 184, 0, 169, 42, 3]
abbrev dktX0_claims_0 : List UInt8 := dkwX0_claims_0 ++ dktX0_claims_1
theorem dksX0_claims_0 : cX0_claims.data.toList.drop 0 = dktX0_claims_0 := by decide +kernel
theorem dksX0_claims_1 : cX0_claims.data.toList.drop 23 = dktX0_claims_1 := dk_seg dksX0_claims_0 23 rfl rfl
theorem dksX0_claims_2 : cX0_claims.data.toList.drop 45 = dktX0_claims_2 := dk_seg dksX0_claims_1 22 rfl rfl
theorem dksX0_claims_3 : cX0_claims.data.toList.drop 69 = dktX0_claims_3 := dk_seg dksX0_claims_2 24 rfl rfl
theorem dX0_claims_0 : decode cX0_claims 0 = .ok (.aload_n 0, 1) := dk_42 (dk_at dksX0_claims_0 0 rfl rfl)
theorem dX0_claims_1 : decode cX0_claims 1 = .ok (.getfield 329, 3) := dk_180 1 73 (dk_at dksX0_claims_0 1 rfl rfl)
theorem dX0_claims_4 : decode cX0_claims 4 = .ok (.newarray .byte, 2) := dk_188_8 (dk_at dksX0_claims_0 4 rfl rfl)
theorem dX0_claims_6 : decode cX0_claims 6 = .ok (.astore_n 1, 1) := dk_76 (dk_at dksX0_claims_0 6 rfl rfl)
theorem dX0_claims_7 : decode cX0_claims 7 = .ok (.aload_n 0, 1) := dk_42 (dk_at dksX0_claims_0 7 rfl rfl)
theorem dX0_claims_8 : decode cX0_claims 8 = .ok (.getfield 332, 3) := dk_180 1 76 (dk_at dksX0_claims_0 8 rfl rfl)
theorem dX0_claims_11 : decode cX0_claims 11 = .ok (.iconst 0, 1) := dk_3 (dk_at dksX0_claims_0 11 rfl rfl)
theorem dX0_claims_12 : decode cX0_claims 12 = .ok (.aload_n 1, 1) := dk_43 (dk_at dksX0_claims_0 12 rfl rfl)
theorem dX0_claims_13 : decode cX0_claims 13 = .ok (.iconst 0, 1) := dk_3 (dk_at dksX0_claims_0 13 rfl rfl)
theorem dX0_claims_14 : decode cX0_claims 14 = .ok (.aload_n 0, 1) := dk_42 (dk_at dksX0_claims_0 14 rfl rfl)
theorem dX0_claims_15 : decode cX0_claims 15 = .ok (.getfield 329, 3) := dk_180 1 73 (dk_at dksX0_claims_0 15 rfl rfl)
theorem dX0_claims_18 : decode cX0_claims 18 = .ok (.invokestatic 169, 3) := dk_184 0 169 (dk_at dksX0_claims_0 18 rfl rfl)
theorem dX0_claims_21 : decode cX0_claims 21 = .ok (.aload_n 0, 1) := dk_42 (dk_at dksX0_claims_0 21 rfl rfl)
theorem dX0_claims_22 : decode cX0_claims 22 = .ok (.iconst 0, 1) := dk_3 (dk_at dksX0_claims_0 22 rfl rfl)
theorem dX0_claims_23 : decode cX0_claims 23 = .ok (.putfield 329, 3) := dk_181 1 73 (dk_at dksX0_claims_1 0 rfl rfl)
theorem dX0_claims_26 : decode cX0_claims 26 = .ok (.aload_n 0, 1) := dk_42 (dk_at dksX0_claims_1 3 rfl rfl)
theorem dX0_claims_27 : decode cX0_claims 27 = .ok (.getfield 336, 3) := dk_180 1 80 (dk_at dksX0_claims_1 4 rfl rfl)
theorem dX0_claims_30 : decode cX0_claims 30 = .ok (.istore_n 2, 1) := dk_61 (dk_at dksX0_claims_1 7 rfl rfl)
theorem dX0_claims_31 : decode cX0_claims 31 = .ok (.new 339, 3) := dk_187 1 83 (dk_at dksX0_claims_1 8 rfl rfl)
theorem dX0_claims_34 : decode cX0_claims 34 = .ok (.dup, 1) := dk_89 (dk_at dksX0_claims_1 11 rfl rfl)
theorem dX0_claims_35 : decode cX0_claims 35 = .ok (.aload_n 0, 1) := dk_42 (dk_at dksX0_claims_1 12 rfl rfl)
theorem dX0_claims_36 : decode cX0_claims 36 = .ok (.aload_n 1, 1) := dk_43 (dk_at dksX0_claims_1 13 rfl rfl)
theorem dX0_claims_37 : decode cX0_claims 37 = .ok (.invokespecial 341, 3) := dk_183 1 85 (dk_at dksX0_claims_1 14 rfl rfl)
theorem dX0_claims_40 : decode cX0_claims 40 = .ok (.invokevirtual 344, 3) := dk_182 1 88 (dk_at dksX0_claims_1 17 rfl rfl)
theorem dX0_claims_43 : decode cX0_claims 43 = .ok (.aload_n 0, 1) := dk_42 (dk_at dksX0_claims_1 20 rfl rfl)
theorem dX0_claims_44 : decode cX0_claims 44 = .ok (.iconst 0, 1) := dk_3 (dk_at dksX0_claims_1 21 rfl rfl)
theorem dX0_claims_45 : decode cX0_claims 45 = .ok (.putfield 347, 3) := dk_181 1 91 (dk_at dksX0_claims_2 0 rfl rfl)
theorem dX0_claims_48 : decode cX0_claims 48 = .ok (.aload_n 0, 1) := dk_42 (dk_at dksX0_claims_2 3 rfl rfl)
theorem dX0_claims_49 : decode cX0_claims 49 = .ok (.getfield 336, 3) := dk_180 1 80 (dk_at dksX0_claims_2 4 rfl rfl)
theorem dX0_claims_52 : decode cX0_claims 52 = .ok (.iload_n 2, 1) := dk_28 (dk_at dksX0_claims_2 7 rfl rfl)
theorem dX0_claims_53 : decode cX0_claims 53 = .ok (.isub, 1) := dk_100 (dk_at dksX0_claims_2 8 rfl rfl)
theorem dX0_claims_54 : decode cX0_claims 54 = .ok (.ireturn, 1) := dk_172 (dk_at dksX0_claims_2 9 rfl rfl)
theorem dX0_claims_55 : decode cX0_claims 55 = .ok (.astore_n 3, 1) := dk_78 (dk_at dksX0_claims_2 10 rfl rfl)
theorem dX0_claims_56 : decode cX0_claims 56 = .ok (.aload_n 0, 1) := dk_42 (dk_at dksX0_claims_2 11 rfl rfl)
theorem dX0_claims_57 : decode cX0_claims 57 = .ok (.iload_n 2, 1) := dk_28 (dk_at dksX0_claims_2 12 rfl rfl)
theorem dX0_claims_58 : decode cX0_claims 58 = .ok (.putfield 336, 3) := dk_181 1 80 (dk_at dksX0_claims_2 13 rfl rfl)
theorem dX0_claims_61 : decode cX0_claims 61 = .ok (.aload_n 0, 1) := dk_42 (dk_at dksX0_claims_2 16 rfl rfl)
theorem dX0_claims_62 : decode cX0_claims 62 = .ok (.aload_n 3, 1) := dk_45 (dk_at dksX0_claims_2 17 rfl rfl)
theorem dX0_claims_63 : decode cX0_claims 63 = .ok (.getfield 352, 3) := dk_180 1 96 (dk_at dksX0_claims_2 18 rfl rfl)
theorem dX0_claims_66 : decode cX0_claims 66 = .ok (.putfield 347, 3) := dk_181 1 91 (dk_at dksX0_claims_2 21 rfl rfl)
theorem dX0_claims_69 : decode cX0_claims 69 = .ok (.bipush (-10), 2) := dk_16 246 (dk_at dksX0_claims_3 0 rfl rfl)
theorem dX0_claims_71 : decode cX0_claims 71 = .ok (.aload_n 3, 1) := dk_45 (dk_at dksX0_claims_3 2 rfl rfl)
theorem dX0_claims_72 : decode cX0_claims 72 = .ok (.getfield 355, 3) := dk_180 1 99 (dk_at dksX0_claims_3 3 rfl rfl)
theorem dX0_claims_75 : decode cX0_claims 75 = .ok (.isub, 1) := dk_100 (dk_at dksX0_claims_3 6 rfl rfl)
theorem dX0_claims_76 : decode cX0_claims 76 = .ok (.ireturn, 1) := dk_172 (dk_at dksX0_claims_3 7 rfl rfl)
abbrev cX0_fault : ByteArray := prog_1_method_62_code
def yX0_fault : MethodName := ⟨RX0, "fault", "()I"⟩
theorem dX0_fault_0 : decode cX0_fault 0 = .ok (.aload_n 0, 1) := by decide +kernel
theorem dX0_fault_1 : decode cX0_fault 1 = .ok (.getfield 347, 3) := by decide +kernel
theorem dX0_fault_4 : decode cX0_fault 4 = .ok (.ireturn, 1) := by decide +kernel
abbrev cX0_claim : ByteArray := prog_1_method_66_code
def yX0_claim : MethodName := ⟨RX0, "claim", "(II)I"⟩
def dkwX0_claim_3 : List UInt8 := [184, 0, 25, 172, 42, 27, 182, 1, 128, 184, 0, 25, 4, 100, 172, 42, 27, 182, 1, 114, 172, 2, 172]
abbrev dktX0_claim_3 : List UInt8 := dkwX0_claim_3 ++ []
def dkwX0_claim_2 : List UInt8 := [45, 180, 1, 120, 172, 45, 180, 1, 123, 172, 45, 180, 1, 125, 172, 45, 180, 1, 106, 172, 45, 180, 1, 111]
abbrev dktX0_claim_2 : List UInt8 := dkwX0_claim_2 ++ dktX0_claim_3
def dkwX0_claim_1 : List UInt8 := [170, 0, 0, 0, 0, 87, 0, 0, 0, 0, 0, 0, 0, 6, 0, 0, 0, 42, 0, 0, 0, 47, 0, 0, 0, 52, 0, 0, 0, 57, 0, 0, 0, 62, 0, 0, 0, 70, 0, 0, 0, 81]
abbrev dktX0_claim_1 : List UInt8 := dkwX0_claim_1 ++ dktX0_claim_2
def dkwX0_claim_0 : List UInt8 := [42, 27, 182, 1, 117, 154, 0, 5, 2, 172, 42, 180, 1, 102, 27, 50, 78, 28]
abbrev dktX0_claim_0 : List UInt8 := dkwX0_claim_0 ++ dktX0_claim_1
theorem dksX0_claim_0 : cX0_claim.data.toList.drop 0 = dktX0_claim_0 := by decide +kernel
theorem dksX0_claim_1 : cX0_claim.data.toList.drop 18 = dktX0_claim_1 := dk_seg dksX0_claim_0 18 rfl rfl
theorem dksX0_claim_2 : cX0_claim.data.toList.drop 60 = dktX0_claim_2 := dk_seg dksX0_claim_1 42 rfl rfl
theorem dksX0_claim_3 : cX0_claim.data.toList.drop 84 = dktX0_claim_3 := dk_seg dksX0_claim_2 24 rfl rfl
theorem dX0_claim_0 : decode cX0_claim 0 = .ok (.aload_n 0, 1) := dk_42 (dk_at dksX0_claim_0 0 rfl rfl)
theorem dX0_claim_1 : decode cX0_claim 1 = .ok (.iload_n 1, 1) := dk_27 (dk_at dksX0_claim_0 1 rfl rfl)
theorem dX0_claim_2 : decode cX0_claim 2 = .ok (.invokevirtual 373, 3) := dk_182 1 117 (dk_at dksX0_claim_0 2 rfl rfl)
theorem dX0_claim_5 : decode cX0_claim 5 = .ok (.ifCond .ne 5, 3) := dk_154 0 5 (dk_at dksX0_claim_0 5 rfl rfl)
theorem dX0_claim_8 : decode cX0_claim 8 = .ok (.iconst (-1), 1) := dk_2 (dk_at dksX0_claim_0 8 rfl rfl)
theorem dX0_claim_9 : decode cX0_claim 9 = .ok (.ireturn, 1) := dk_172 (dk_at dksX0_claim_0 9 rfl rfl)
theorem dX0_claim_10 : decode cX0_claim 10 = .ok (.aload_n 0, 1) := dk_42 (dk_at dksX0_claim_0 10 rfl rfl)
theorem dX0_claim_11 : decode cX0_claim 11 = .ok (.getfield 358, 3) := dk_180 1 102 (dk_at dksX0_claim_0 11 rfl rfl)
theorem dX0_claim_14 : decode cX0_claim 14 = .ok (.iload_n 1, 1) := dk_27 (dk_at dksX0_claim_0 14 rfl rfl)
theorem dX0_claim_15 : decode cX0_claim 15 = .ok (.aaload, 1) := dk_50 (dk_at dksX0_claim_0 15 rfl rfl)
theorem dX0_claim_16 : decode cX0_claim 16 = .ok (.astore_n 3, 1) := dk_78 (dk_at dksX0_claim_0 16 rfl rfl)
theorem dX0_claim_17 : decode cX0_claim 17 = .ok (.iload_n 2, 1) := dk_28 (dk_at dksX0_claim_0 17 rfl rfl)
theorem dX0_claim_18 : decode cX0_claim 18 = .ok (.tableswitch 87 0 6 #[42, 47, 52, 57, 62, 70, 81], 42) := by decide +kernel
theorem dX0_claim_60 : decode cX0_claim 60 = .ok (.aload_n 3, 1) := dk_45 (dk_at dksX0_claim_2 0 rfl rfl)
theorem dX0_claim_61 : decode cX0_claim 61 = .ok (.getfield 376, 3) := dk_180 1 120 (dk_at dksX0_claim_2 1 rfl rfl)
theorem dX0_claim_64 : decode cX0_claim 64 = .ok (.ireturn, 1) := dk_172 (dk_at dksX0_claim_2 4 rfl rfl)
theorem dX0_claim_65 : decode cX0_claim 65 = .ok (.aload_n 3, 1) := dk_45 (dk_at dksX0_claim_2 5 rfl rfl)
theorem dX0_claim_66 : decode cX0_claim 66 = .ok (.getfield 379, 3) := dk_180 1 123 (dk_at dksX0_claim_2 6 rfl rfl)
theorem dX0_claim_69 : decode cX0_claim 69 = .ok (.ireturn, 1) := dk_172 (dk_at dksX0_claim_2 9 rfl rfl)
theorem dX0_claim_70 : decode cX0_claim 70 = .ok (.aload_n 3, 1) := dk_45 (dk_at dksX0_claim_2 10 rfl rfl)
theorem dX0_claim_71 : decode cX0_claim 71 = .ok (.getfield 381, 3) := dk_180 1 125 (dk_at dksX0_claim_2 11 rfl rfl)
theorem dX0_claim_74 : decode cX0_claim 74 = .ok (.ireturn, 1) := dk_172 (dk_at dksX0_claim_2 14 rfl rfl)
theorem dX0_claim_75 : decode cX0_claim 75 = .ok (.aload_n 3, 1) := dk_45 (dk_at dksX0_claim_2 15 rfl rfl)
theorem dX0_claim_76 : decode cX0_claim 76 = .ok (.getfield 362, 3) := dk_180 1 106 (dk_at dksX0_claim_2 16 rfl rfl)
theorem dX0_claim_79 : decode cX0_claim 79 = .ok (.ireturn, 1) := dk_172 (dk_at dksX0_claim_2 19 rfl rfl)
theorem dX0_claim_80 : decode cX0_claim 80 = .ok (.aload_n 3, 1) := dk_45 (dk_at dksX0_claim_2 20 rfl rfl)
theorem dX0_claim_81 : decode cX0_claim 81 = .ok (.getfield 367, 3) := dk_180 1 111 (dk_at dksX0_claim_2 21 rfl rfl)
theorem dX0_claim_84 : decode cX0_claim 84 = .ok (.invokestatic 25, 3) := dk_184 0 25 (dk_at dksX0_claim_3 0 rfl rfl)
theorem dX0_claim_87 : decode cX0_claim 87 = .ok (.ireturn, 1) := dk_172 (dk_at dksX0_claim_3 3 rfl rfl)
theorem dX0_claim_88 : decode cX0_claim 88 = .ok (.aload_n 0, 1) := dk_42 (dk_at dksX0_claim_3 4 rfl rfl)
theorem dX0_claim_89 : decode cX0_claim 89 = .ok (.iload_n 1, 1) := dk_27 (dk_at dksX0_claim_3 5 rfl rfl)
theorem dX0_claim_90 : decode cX0_claim 90 = .ok (.invokevirtual 384, 3) := dk_182 1 128 (dk_at dksX0_claim_3 6 rfl rfl)
theorem dX0_claim_93 : decode cX0_claim 93 = .ok (.invokestatic 25, 3) := dk_184 0 25 (dk_at dksX0_claim_3 9 rfl rfl)
theorem dX0_claim_96 : decode cX0_claim 96 = .ok (.iconst 1, 1) := dk_4 (dk_at dksX0_claim_3 12 rfl rfl)
theorem dX0_claim_97 : decode cX0_claim 97 = .ok (.isub, 1) := dk_100 (dk_at dksX0_claim_3 13 rfl rfl)
theorem dX0_claim_98 : decode cX0_claim 98 = .ok (.ireturn, 1) := dk_172 (dk_at dksX0_claim_3 14 rfl rfl)
theorem dX0_claim_99 : decode cX0_claim 99 = .ok (.aload_n 0, 1) := dk_42 (dk_at dksX0_claim_3 15 rfl rfl)
theorem dX0_claim_100 : decode cX0_claim 100 = .ok (.iload_n 1, 1) := dk_27 (dk_at dksX0_claim_3 16 rfl rfl)
theorem dX0_claim_101 : decode cX0_claim 101 = .ok (.invokevirtual 370, 3) := dk_182 1 114 (dk_at dksX0_claim_3 17 rfl rfl)
theorem dX0_claim_104 : decode cX0_claim 104 = .ok (.ireturn, 1) := dk_172 (dk_at dksX0_claim_3 20 rfl rfl)
theorem dX0_claim_105 : decode cX0_claim 105 = .ok (.iconst (-1), 1) := dk_2 (dk_at dksX0_claim_3 21 rfl rfl)
theorem dX0_claim_106 : decode cX0_claim 106 = .ok (.ireturn, 1) := dk_172 (dk_at dksX0_claim_3 22 rfl rfl)
abbrev cX0_isClaim : ByteArray := prog_1_method_63_code
def yX0_isClaim : MethodName := ⟨RX0, "isClaim", "(I)Z"⟩
def dkwX0_isClaim_0 : List UInt8 := [27, 133, 9, 42, 180, 1, 80, 4, 100, 133, 184, 0, 5, 172]
abbrev dktX0_isClaim_0 : List UInt8 := dkwX0_isClaim_0 ++ []
theorem dksX0_isClaim_0 : cX0_isClaim.data.toList.drop 0 = dktX0_isClaim_0 := by decide +kernel
theorem dX0_isClaim_0 : decode cX0_isClaim 0 = .ok (.iload_n 1, 1) := dk_27 (dk_at dksX0_isClaim_0 0 rfl rfl)
theorem dX0_isClaim_1 : decode cX0_isClaim 1 = .ok (.i2l, 1) := dk_133 (dk_at dksX0_isClaim_0 1 rfl rfl)
theorem dX0_isClaim_2 : decode cX0_isClaim 2 = .ok (.lconst 0, 1) := dk_9 (dk_at dksX0_isClaim_0 2 rfl rfl)
theorem dX0_isClaim_3 : decode cX0_isClaim 3 = .ok (.aload_n 0, 1) := dk_42 (dk_at dksX0_isClaim_0 3 rfl rfl)
theorem dX0_isClaim_4 : decode cX0_isClaim 4 = .ok (.getfield 336, 3) := dk_180 1 80 (dk_at dksX0_isClaim_0 4 rfl rfl)
theorem dX0_isClaim_7 : decode cX0_isClaim 7 = .ok (.iconst 1, 1) := dk_4 (dk_at dksX0_isClaim_0 7 rfl rfl)
theorem dX0_isClaim_8 : decode cX0_isClaim 8 = .ok (.isub, 1) := dk_100 (dk_at dksX0_isClaim_0 8 rfl rfl)
theorem dX0_isClaim_9 : decode cX0_isClaim 9 = .ok (.i2l, 1) := dk_133 (dk_at dksX0_isClaim_0 9 rfl rfl)
theorem dX0_isClaim_10 : decode cX0_isClaim 10 = .ok (.invokestatic 5, 3) := dk_184 0 5 (dk_at dksX0_isClaim_0 10 rfl rfl)
theorem dX0_isClaim_13 : decode cX0_isClaim 13 = .ok (.ireturn, 1) := dk_172 (dk_at dksX0_isClaim_0 13 rfl rfl)
abbrev cX0_hung : ByteArray := prog_1_method_64_code
def yX0_hung : MethodName := ⟨RX0, "hung", "(I)I"⟩
def dkwX0_hung_2 : List UInt8 := [120, 167, 0, 4, 3, 128, 61, 132, 3, 1, 167, 255, 207, 28, 172]
abbrev dktX0_hung_2 : List UInt8 := dkwX0_hung_2 ++ []
def dkwX0_hung_1 : List UInt8 := [180, 1, 106, 16, 252, 160, 0, 23, 42, 180, 1, 102, 29, 50, 180, 1, 111, 28, 126, 153, 0, 9, 4, 29]
abbrev dktX0_hung_1 : List UInt8 := dkwX0_hung_1 ++ dktX0_hung_2
def dkwX0_hung_0 : List UInt8 := [4, 27, 120, 61, 27, 4, 96, 62, 29, 42, 180, 1, 80, 162, 0, 47, 28, 42, 180, 1, 102, 29, 50]
abbrev dktX0_hung_0 : List UInt8 := dkwX0_hung_0 ++ dktX0_hung_1
theorem dksX0_hung_0 : cX0_hung.data.toList.drop 0 = dktX0_hung_0 := by decide +kernel
theorem dksX0_hung_1 : cX0_hung.data.toList.drop 23 = dktX0_hung_1 := dk_seg dksX0_hung_0 23 rfl rfl
theorem dksX0_hung_2 : cX0_hung.data.toList.drop 47 = dktX0_hung_2 := dk_seg dksX0_hung_1 24 rfl rfl
theorem dX0_hung_0 : decode cX0_hung 0 = .ok (.iconst 1, 1) := dk_4 (dk_at dksX0_hung_0 0 rfl rfl)
theorem dX0_hung_1 : decode cX0_hung 1 = .ok (.iload_n 1, 1) := dk_27 (dk_at dksX0_hung_0 1 rfl rfl)
theorem dX0_hung_2 : decode cX0_hung 2 = .ok (.ishl, 1) := dk_120 (dk_at dksX0_hung_0 2 rfl rfl)
theorem dX0_hung_3 : decode cX0_hung 3 = .ok (.istore_n 2, 1) := dk_61 (dk_at dksX0_hung_0 3 rfl rfl)
theorem dX0_hung_4 : decode cX0_hung 4 = .ok (.iload_n 1, 1) := dk_27 (dk_at dksX0_hung_0 4 rfl rfl)
theorem dX0_hung_5 : decode cX0_hung 5 = .ok (.iconst 1, 1) := dk_4 (dk_at dksX0_hung_0 5 rfl rfl)
theorem dX0_hung_6 : decode cX0_hung 6 = .ok (.iadd, 1) := dk_96 (dk_at dksX0_hung_0 6 rfl rfl)
theorem dX0_hung_7 : decode cX0_hung 7 = .ok (.istore_n 3, 1) := dk_62 (dk_at dksX0_hung_0 7 rfl rfl)
theorem dX0_hung_8 : decode cX0_hung 8 = .ok (.iload_n 3, 1) := dk_29 (dk_at dksX0_hung_0 8 rfl rfl)
theorem dX0_hung_9 : decode cX0_hung 9 = .ok (.aload_n 0, 1) := dk_42 (dk_at dksX0_hung_0 9 rfl rfl)
theorem dX0_hung_10 : decode cX0_hung 10 = .ok (.getfield 336, 3) := dk_180 1 80 (dk_at dksX0_hung_0 10 rfl rfl)
theorem dX0_hung_13 : decode cX0_hung 13 = .ok (.if_icmp .ge 47, 3) := dk_162 0 47 (dk_at dksX0_hung_0 13 rfl rfl)
theorem dX0_hung_16 : decode cX0_hung 16 = .ok (.iload_n 2, 1) := dk_28 (dk_at dksX0_hung_0 16 rfl rfl)
theorem dX0_hung_17 : decode cX0_hung 17 = .ok (.aload_n 0, 1) := dk_42 (dk_at dksX0_hung_0 17 rfl rfl)
theorem dX0_hung_18 : decode cX0_hung 18 = .ok (.getfield 358, 3) := dk_180 1 102 (dk_at dksX0_hung_0 18 rfl rfl)
theorem dX0_hung_21 : decode cX0_hung 21 = .ok (.iload_n 3, 1) := dk_29 (dk_at dksX0_hung_0 21 rfl rfl)
theorem dX0_hung_22 : decode cX0_hung 22 = .ok (.aaload, 1) := dk_50 (dk_at dksX0_hung_0 22 rfl rfl)
theorem dX0_hung_23 : decode cX0_hung 23 = .ok (.getfield 362, 3) := dk_180 1 106 (dk_at dksX0_hung_1 0 rfl rfl)
theorem dX0_hung_26 : decode cX0_hung 26 = .ok (.bipush (-4), 2) := dk_16 252 (dk_at dksX0_hung_1 3 rfl rfl)
theorem dX0_hung_28 : decode cX0_hung 28 = .ok (.if_icmp .ne 23, 3) := dk_160 0 23 (dk_at dksX0_hung_1 5 rfl rfl)
theorem dX0_hung_31 : decode cX0_hung 31 = .ok (.aload_n 0, 1) := dk_42 (dk_at dksX0_hung_1 8 rfl rfl)
theorem dX0_hung_32 : decode cX0_hung 32 = .ok (.getfield 358, 3) := dk_180 1 102 (dk_at dksX0_hung_1 9 rfl rfl)
theorem dX0_hung_35 : decode cX0_hung 35 = .ok (.iload_n 3, 1) := dk_29 (dk_at dksX0_hung_1 12 rfl rfl)
theorem dX0_hung_36 : decode cX0_hung 36 = .ok (.aaload, 1) := dk_50 (dk_at dksX0_hung_1 13 rfl rfl)
theorem dX0_hung_37 : decode cX0_hung 37 = .ok (.getfield 367, 3) := dk_180 1 111 (dk_at dksX0_hung_1 14 rfl rfl)
theorem dX0_hung_40 : decode cX0_hung 40 = .ok (.iload_n 2, 1) := dk_28 (dk_at dksX0_hung_1 17 rfl rfl)
theorem dX0_hung_41 : decode cX0_hung 41 = .ok (.iand, 1) := dk_126 (dk_at dksX0_hung_1 18 rfl rfl)
theorem dX0_hung_42 : decode cX0_hung 42 = .ok (.ifCond .eq 9, 3) := dk_153 0 9 (dk_at dksX0_hung_1 19 rfl rfl)
theorem dX0_hung_45 : decode cX0_hung 45 = .ok (.iconst 1, 1) := dk_4 (dk_at dksX0_hung_1 22 rfl rfl)
theorem dX0_hung_46 : decode cX0_hung 46 = .ok (.iload_n 3, 1) := dk_29 (dk_at dksX0_hung_1 23 rfl rfl)
theorem dX0_hung_47 : decode cX0_hung 47 = .ok (.ishl, 1) := dk_120 (dk_at dksX0_hung_2 0 rfl rfl)
theorem dX0_hung_48 : decode cX0_hung 48 = .ok (.goto 4, 3) := dk_167 0 4 (dk_at dksX0_hung_2 1 rfl rfl)
theorem dX0_hung_51 : decode cX0_hung 51 = .ok (.iconst 0, 1) := dk_3 (dk_at dksX0_hung_2 4 rfl rfl)
theorem dX0_hung_52 : decode cX0_hung 52 = .ok (.ior, 1) := dk_128 (dk_at dksX0_hung_2 5 rfl rfl)
theorem dX0_hung_53 : decode cX0_hung 53 = .ok (.istore_n 2, 1) := dk_61 (dk_at dksX0_hung_2 6 rfl rfl)
theorem dX0_hung_54 : decode cX0_hung 54 = .ok (.iinc 3 1, 3) := dk_132 3 1 (dk_at dksX0_hung_2 7 rfl rfl)
theorem dX0_hung_57 : decode cX0_hung 57 = .ok (.goto (-49), 3) := dk_167 255 207 (dk_at dksX0_hung_2 10 rfl rfl)
theorem dX0_hung_60 : decode cX0_hung 60 = .ok (.iload_n 2, 1) := dk_28 (dk_at dksX0_hung_2 13 rfl rfl)
theorem dX0_hung_61 : decode cX0_hung 61 = .ok (.ireturn, 1) := dk_172 (dk_at dksX0_hung_2 14 rfl rfl)
abbrev cX0_deep : ByteArray := prog_1_method_65_code
def yX0_deep : MethodName := ⟨RX0, "deep", "(I)I"⟩
def dkwX0_deep_2 : List UInt8 := [167, 255, 215, 28, 172]
abbrev dktX0_deep_2 : List UInt8 := dkwX0_deep_2 ++ []
def dkwX0_deep_1 : List UInt8 := [160, 0, 17, 28, 4, 42, 29, 182, 1, 114, 96, 184, 0, 82, 167, 0, 4, 28, 61, 132, 3, 1]
abbrev dktX0_deep_1 : List UInt8 := dkwX0_deep_1 ++ dktX0_deep_2
def dkwX0_deep_0 : List UInt8 := [3, 61, 3, 62, 29, 27, 162, 0, 42, 42, 180, 1, 102, 27, 50, 180, 1, 111, 29, 122, 4, 126, 4]
abbrev dktX0_deep_0 : List UInt8 := dkwX0_deep_0 ++ dktX0_deep_1
theorem dksX0_deep_0 : cX0_deep.data.toList.drop 0 = dktX0_deep_0 := by decide +kernel
theorem dksX0_deep_1 : cX0_deep.data.toList.drop 23 = dktX0_deep_1 := dk_seg dksX0_deep_0 23 rfl rfl
theorem dksX0_deep_2 : cX0_deep.data.toList.drop 45 = dktX0_deep_2 := dk_seg dksX0_deep_1 22 rfl rfl
theorem dX0_deep_0 : decode cX0_deep 0 = .ok (.iconst 0, 1) := dk_3 (dk_at dksX0_deep_0 0 rfl rfl)
theorem dX0_deep_1 : decode cX0_deep 1 = .ok (.istore_n 2, 1) := dk_61 (dk_at dksX0_deep_0 1 rfl rfl)
theorem dX0_deep_2 : decode cX0_deep 2 = .ok (.iconst 0, 1) := dk_3 (dk_at dksX0_deep_0 2 rfl rfl)
theorem dX0_deep_3 : decode cX0_deep 3 = .ok (.istore_n 3, 1) := dk_62 (dk_at dksX0_deep_0 3 rfl rfl)
theorem dX0_deep_4 : decode cX0_deep 4 = .ok (.iload_n 3, 1) := dk_29 (dk_at dksX0_deep_0 4 rfl rfl)
theorem dX0_deep_5 : decode cX0_deep 5 = .ok (.iload_n 1, 1) := dk_27 (dk_at dksX0_deep_0 5 rfl rfl)
theorem dX0_deep_6 : decode cX0_deep 6 = .ok (.if_icmp .ge 42, 3) := dk_162 0 42 (dk_at dksX0_deep_0 6 rfl rfl)
theorem dX0_deep_9 : decode cX0_deep 9 = .ok (.aload_n 0, 1) := dk_42 (dk_at dksX0_deep_0 9 rfl rfl)
theorem dX0_deep_10 : decode cX0_deep 10 = .ok (.getfield 358, 3) := dk_180 1 102 (dk_at dksX0_deep_0 10 rfl rfl)
theorem dX0_deep_13 : decode cX0_deep 13 = .ok (.iload_n 1, 1) := dk_27 (dk_at dksX0_deep_0 13 rfl rfl)
theorem dX0_deep_14 : decode cX0_deep 14 = .ok (.aaload, 1) := dk_50 (dk_at dksX0_deep_0 14 rfl rfl)
theorem dX0_deep_15 : decode cX0_deep 15 = .ok (.getfield 367, 3) := dk_180 1 111 (dk_at dksX0_deep_0 15 rfl rfl)
theorem dX0_deep_18 : decode cX0_deep 18 = .ok (.iload_n 3, 1) := dk_29 (dk_at dksX0_deep_0 18 rfl rfl)
theorem dX0_deep_19 : decode cX0_deep 19 = .ok (.ishr, 1) := dk_122 (dk_at dksX0_deep_0 19 rfl rfl)
theorem dX0_deep_20 : decode cX0_deep 20 = .ok (.iconst 1, 1) := dk_4 (dk_at dksX0_deep_0 20 rfl rfl)
theorem dX0_deep_21 : decode cX0_deep 21 = .ok (.iand, 1) := dk_126 (dk_at dksX0_deep_0 21 rfl rfl)
theorem dX0_deep_22 : decode cX0_deep 22 = .ok (.iconst 1, 1) := dk_4 (dk_at dksX0_deep_0 22 rfl rfl)
theorem dX0_deep_23 : decode cX0_deep 23 = .ok (.if_icmp .ne 17, 3) := dk_160 0 17 (dk_at dksX0_deep_1 0 rfl rfl)
theorem dX0_deep_26 : decode cX0_deep 26 = .ok (.iload_n 2, 1) := dk_28 (dk_at dksX0_deep_1 3 rfl rfl)
theorem dX0_deep_27 : decode cX0_deep 27 = .ok (.iconst 1, 1) := dk_4 (dk_at dksX0_deep_1 4 rfl rfl)
theorem dX0_deep_28 : decode cX0_deep 28 = .ok (.aload_n 0, 1) := dk_42 (dk_at dksX0_deep_1 5 rfl rfl)
theorem dX0_deep_29 : decode cX0_deep 29 = .ok (.iload_n 3, 1) := dk_29 (dk_at dksX0_deep_1 6 rfl rfl)
theorem dX0_deep_30 : decode cX0_deep 30 = .ok (.invokevirtual 370, 3) := dk_182 1 114 (dk_at dksX0_deep_1 7 rfl rfl)
theorem dX0_deep_33 : decode cX0_deep 33 = .ok (.iadd, 1) := dk_96 (dk_at dksX0_deep_1 10 rfl rfl)
theorem dX0_deep_34 : decode cX0_deep 34 = .ok (.invokestatic 82, 3) := dk_184 0 82 (dk_at dksX0_deep_1 11 rfl rfl)
theorem dX0_deep_37 : decode cX0_deep 37 = .ok (.goto 4, 3) := dk_167 0 4 (dk_at dksX0_deep_1 14 rfl rfl)
theorem dX0_deep_40 : decode cX0_deep 40 = .ok (.iload_n 2, 1) := dk_28 (dk_at dksX0_deep_1 17 rfl rfl)
theorem dX0_deep_41 : decode cX0_deep 41 = .ok (.istore_n 2, 1) := dk_61 (dk_at dksX0_deep_1 18 rfl rfl)
theorem dX0_deep_42 : decode cX0_deep 42 = .ok (.iinc 3 1, 3) := dk_132 3 1 (dk_at dksX0_deep_1 19 rfl rfl)
theorem dX0_deep_45 : decode cX0_deep 45 = .ok (.goto (-41), 3) := dk_167 255 215 (dk_at dksX0_deep_2 0 rfl rfl)
theorem dX0_deep_48 : decode cX0_deep 48 = .ok (.iload_n 2, 1) := dk_28 (dk_at dksX0_deep_2 3 rfl rfl)
theorem dX0_deep_49 : decode cX0_deep 49 = .ok (.ireturn, 1) := dk_172 (dk_at dksX0_deep_2 4 rfl rfl)
abbrev cX0_withdraw : ByteArray := prog_1_method_67_code
def yX0_withdraw : MethodName := ⟨RX0, "withdraw", "(I)I"⟩
def dkwX0_withdraw_3 : List UInt8 := [180, 1, 106, 181, 1, 106, 132, 3, 1, 167, 255, 211, 28, 184, 0, 25, 172]
abbrev dktX0_withdraw_3 : List UInt8 := dkwX0_withdraw_3 ++ []
def dkwX0_withdraw_2 : List UInt8 := [50, 28, 29, 122, 4, 126, 4, 160, 0, 10, 42, 180, 1, 131, 167, 0, 12, 42, 180, 1, 102, 29, 50]
abbrev dktX0_withdraw_2 : List UInt8 := dkwX0_withdraw_2 ++ dktX0_withdraw_3
def dkwX0_withdraw_1 : List UInt8 := [16, 254, 172, 42, 27, 182, 1, 128, 61, 3, 62, 29, 42, 180, 1, 80, 162, 0, 43, 42, 180, 1, 102, 29]
abbrev dktX0_withdraw_1 : List UInt8 := dkwX0_withdraw_1 ++ dktX0_withdraw_2
def dkwX0_withdraw_0 : List UInt8 := [42, 27, 182, 1, 117, 154, 0, 5, 2, 172, 42, 180, 1, 102, 27, 50, 180, 1, 106, 16, 252, 159, 0, 6]
abbrev dktX0_withdraw_0 : List UInt8 := dkwX0_withdraw_0 ++ dktX0_withdraw_1
theorem dksX0_withdraw_0 : cX0_withdraw.data.toList.drop 0 = dktX0_withdraw_0 := by decide +kernel
theorem dksX0_withdraw_1 : cX0_withdraw.data.toList.drop 24 = dktX0_withdraw_1 := dk_seg dksX0_withdraw_0 24 rfl rfl
theorem dksX0_withdraw_2 : cX0_withdraw.data.toList.drop 48 = dktX0_withdraw_2 := dk_seg dksX0_withdraw_1 24 rfl rfl
theorem dksX0_withdraw_3 : cX0_withdraw.data.toList.drop 71 = dktX0_withdraw_3 := dk_seg dksX0_withdraw_2 23 rfl rfl
theorem dX0_withdraw_0 : decode cX0_withdraw 0 = .ok (.aload_n 0, 1) := dk_42 (dk_at dksX0_withdraw_0 0 rfl rfl)
theorem dX0_withdraw_1 : decode cX0_withdraw 1 = .ok (.iload_n 1, 1) := dk_27 (dk_at dksX0_withdraw_0 1 rfl rfl)
theorem dX0_withdraw_2 : decode cX0_withdraw 2 = .ok (.invokevirtual 373, 3) := dk_182 1 117 (dk_at dksX0_withdraw_0 2 rfl rfl)
theorem dX0_withdraw_5 : decode cX0_withdraw 5 = .ok (.ifCond .ne 5, 3) := dk_154 0 5 (dk_at dksX0_withdraw_0 5 rfl rfl)
theorem dX0_withdraw_8 : decode cX0_withdraw 8 = .ok (.iconst (-1), 1) := dk_2 (dk_at dksX0_withdraw_0 8 rfl rfl)
theorem dX0_withdraw_9 : decode cX0_withdraw 9 = .ok (.ireturn, 1) := dk_172 (dk_at dksX0_withdraw_0 9 rfl rfl)
theorem dX0_withdraw_10 : decode cX0_withdraw 10 = .ok (.aload_n 0, 1) := dk_42 (dk_at dksX0_withdraw_0 10 rfl rfl)
theorem dX0_withdraw_11 : decode cX0_withdraw 11 = .ok (.getfield 358, 3) := dk_180 1 102 (dk_at dksX0_withdraw_0 11 rfl rfl)
theorem dX0_withdraw_14 : decode cX0_withdraw 14 = .ok (.iload_n 1, 1) := dk_27 (dk_at dksX0_withdraw_0 14 rfl rfl)
theorem dX0_withdraw_15 : decode cX0_withdraw 15 = .ok (.aaload, 1) := dk_50 (dk_at dksX0_withdraw_0 15 rfl rfl)
theorem dX0_withdraw_16 : decode cX0_withdraw 16 = .ok (.getfield 362, 3) := dk_180 1 106 (dk_at dksX0_withdraw_0 16 rfl rfl)
theorem dX0_withdraw_19 : decode cX0_withdraw 19 = .ok (.bipush (-4), 2) := dk_16 252 (dk_at dksX0_withdraw_0 19 rfl rfl)
theorem dX0_withdraw_21 : decode cX0_withdraw 21 = .ok (.if_icmp .eq 6, 3) := dk_159 0 6 (dk_at dksX0_withdraw_0 21 rfl rfl)
theorem dX0_withdraw_24 : decode cX0_withdraw 24 = .ok (.bipush (-2), 2) := dk_16 254 (dk_at dksX0_withdraw_1 0 rfl rfl)
theorem dX0_withdraw_26 : decode cX0_withdraw 26 = .ok (.ireturn, 1) := dk_172 (dk_at dksX0_withdraw_1 2 rfl rfl)
theorem dX0_withdraw_27 : decode cX0_withdraw 27 = .ok (.aload_n 0, 1) := dk_42 (dk_at dksX0_withdraw_1 3 rfl rfl)
theorem dX0_withdraw_28 : decode cX0_withdraw 28 = .ok (.iload_n 1, 1) := dk_27 (dk_at dksX0_withdraw_1 4 rfl rfl)
theorem dX0_withdraw_29 : decode cX0_withdraw 29 = .ok (.invokevirtual 384, 3) := dk_182 1 128 (dk_at dksX0_withdraw_1 5 rfl rfl)
theorem dX0_withdraw_32 : decode cX0_withdraw 32 = .ok (.istore_n 2, 1) := dk_61 (dk_at dksX0_withdraw_1 8 rfl rfl)
theorem dX0_withdraw_33 : decode cX0_withdraw 33 = .ok (.iconst 0, 1) := dk_3 (dk_at dksX0_withdraw_1 9 rfl rfl)
theorem dX0_withdraw_34 : decode cX0_withdraw 34 = .ok (.istore_n 3, 1) := dk_62 (dk_at dksX0_withdraw_1 10 rfl rfl)
theorem dX0_withdraw_35 : decode cX0_withdraw 35 = .ok (.iload_n 3, 1) := dk_29 (dk_at dksX0_withdraw_1 11 rfl rfl)
theorem dX0_withdraw_36 : decode cX0_withdraw 36 = .ok (.aload_n 0, 1) := dk_42 (dk_at dksX0_withdraw_1 12 rfl rfl)
theorem dX0_withdraw_37 : decode cX0_withdraw 37 = .ok (.getfield 336, 3) := dk_180 1 80 (dk_at dksX0_withdraw_1 13 rfl rfl)
theorem dX0_withdraw_40 : decode cX0_withdraw 40 = .ok (.if_icmp .ge 43, 3) := dk_162 0 43 (dk_at dksX0_withdraw_1 16 rfl rfl)
theorem dX0_withdraw_43 : decode cX0_withdraw 43 = .ok (.aload_n 0, 1) := dk_42 (dk_at dksX0_withdraw_1 19 rfl rfl)
theorem dX0_withdraw_44 : decode cX0_withdraw 44 = .ok (.getfield 358, 3) := dk_180 1 102 (dk_at dksX0_withdraw_1 20 rfl rfl)
theorem dX0_withdraw_47 : decode cX0_withdraw 47 = .ok (.iload_n 3, 1) := dk_29 (dk_at dksX0_withdraw_1 23 rfl rfl)
theorem dX0_withdraw_48 : decode cX0_withdraw 48 = .ok (.aaload, 1) := dk_50 (dk_at dksX0_withdraw_2 0 rfl rfl)
theorem dX0_withdraw_49 : decode cX0_withdraw 49 = .ok (.iload_n 2, 1) := dk_28 (dk_at dksX0_withdraw_2 1 rfl rfl)
theorem dX0_withdraw_50 : decode cX0_withdraw 50 = .ok (.iload_n 3, 1) := dk_29 (dk_at dksX0_withdraw_2 2 rfl rfl)
theorem dX0_withdraw_51 : decode cX0_withdraw 51 = .ok (.ishr, 1) := dk_122 (dk_at dksX0_withdraw_2 3 rfl rfl)
theorem dX0_withdraw_52 : decode cX0_withdraw 52 = .ok (.iconst 1, 1) := dk_4 (dk_at dksX0_withdraw_2 4 rfl rfl)
theorem dX0_withdraw_53 : decode cX0_withdraw 53 = .ok (.iand, 1) := dk_126 (dk_at dksX0_withdraw_2 5 rfl rfl)
theorem dX0_withdraw_54 : decode cX0_withdraw 54 = .ok (.iconst 1, 1) := dk_4 (dk_at dksX0_withdraw_2 6 rfl rfl)
theorem dX0_withdraw_55 : decode cX0_withdraw 55 = .ok (.if_icmp .ne 10, 3) := dk_160 0 10 (dk_at dksX0_withdraw_2 7 rfl rfl)
theorem dX0_withdraw_58 : decode cX0_withdraw 58 = .ok (.aload_n 0, 1) := dk_42 (dk_at dksX0_withdraw_2 10 rfl rfl)
theorem dX0_withdraw_59 : decode cX0_withdraw 59 = .ok (.getfield 387, 3) := dk_180 1 131 (dk_at dksX0_withdraw_2 11 rfl rfl)
theorem dX0_withdraw_62 : decode cX0_withdraw 62 = .ok (.goto 12, 3) := dk_167 0 12 (dk_at dksX0_withdraw_2 14 rfl rfl)
theorem dX0_withdraw_65 : decode cX0_withdraw 65 = .ok (.aload_n 0, 1) := dk_42 (dk_at dksX0_withdraw_2 17 rfl rfl)
theorem dX0_withdraw_66 : decode cX0_withdraw 66 = .ok (.getfield 358, 3) := dk_180 1 102 (dk_at dksX0_withdraw_2 18 rfl rfl)
theorem dX0_withdraw_69 : decode cX0_withdraw 69 = .ok (.iload_n 3, 1) := dk_29 (dk_at dksX0_withdraw_2 21 rfl rfl)
theorem dX0_withdraw_70 : decode cX0_withdraw 70 = .ok (.aaload, 1) := dk_50 (dk_at dksX0_withdraw_2 22 rfl rfl)
theorem dX0_withdraw_71 : decode cX0_withdraw 71 = .ok (.getfield 362, 3) := dk_180 1 106 (dk_at dksX0_withdraw_3 0 rfl rfl)
theorem dX0_withdraw_74 : decode cX0_withdraw 74 = .ok (.putfield 362, 3) := dk_181 1 106 (dk_at dksX0_withdraw_3 3 rfl rfl)
theorem dX0_withdraw_77 : decode cX0_withdraw 77 = .ok (.iinc 3 1, 3) := dk_132 3 1 (dk_at dksX0_withdraw_3 6 rfl rfl)
theorem dX0_withdraw_80 : decode cX0_withdraw 80 = .ok (.goto (-45), 3) := dk_167 255 211 (dk_at dksX0_withdraw_3 9 rfl rfl)
theorem dX0_withdraw_83 : decode cX0_withdraw 83 = .ok (.iload_n 2, 1) := dk_28 (dk_at dksX0_withdraw_3 12 rfl rfl)
theorem dX0_withdraw_84 : decode cX0_withdraw 84 = .ok (.invokestatic 25, 3) := dk_184 0 25 (dk_at dksX0_withdraw_3 13 rfl rfl)
theorem dX0_withdraw_87 : decode cX0_withdraw 87 = .ok (.ireturn, 1) := dk_172 (dk_at dksX0_withdraw_3 16 rfl rfl)
abbrev cX0_day : ByteArray := prog_1_method_68_code
def yX0_day : MethodName := ⟨RX0, "day", "(I)I"⟩
def dkwX0_day_1 : List UInt8 := [27, 181, 1, 131, 28, 172]
abbrev dktX0_day_1 : List UInt8 := dkwX0_day_1 ++ []
def dkwX0_day_0 : List UInt8 := [27, 133, 42, 180, 1, 131, 133, 20, 1, 134, 184, 0, 5, 154, 0, 5, 2, 172, 42, 180, 1, 131, 61, 42]
abbrev dktX0_day_0 : List UInt8 := dkwX0_day_0 ++ dktX0_day_1
theorem dksX0_day_0 : cX0_day.data.toList.drop 0 = dktX0_day_0 := by decide +kernel
theorem dksX0_day_1 : cX0_day.data.toList.drop 24 = dktX0_day_1 := dk_seg dksX0_day_0 24 rfl rfl
theorem dX0_day_0 : decode cX0_day 0 = .ok (.iload_n 1, 1) := dk_27 (dk_at dksX0_day_0 0 rfl rfl)
theorem dX0_day_1 : decode cX0_day 1 = .ok (.i2l, 1) := dk_133 (dk_at dksX0_day_0 1 rfl rfl)
theorem dX0_day_2 : decode cX0_day 2 = .ok (.aload_n 0, 1) := dk_42 (dk_at dksX0_day_0 2 rfl rfl)
theorem dX0_day_3 : decode cX0_day 3 = .ok (.getfield 387, 3) := dk_180 1 131 (dk_at dksX0_day_0 3 rfl rfl)
theorem dX0_day_6 : decode cX0_day 6 = .ok (.i2l, 1) := dk_133 (dk_at dksX0_day_0 6 rfl rfl)
theorem dX0_day_7 : decode cX0_day 7 = .ok (.ldc2_w 390, 3) := dk_20 1 134 (dk_at dksX0_day_0 7 rfl rfl)
theorem dX0_day_10 : decode cX0_day 10 = .ok (.invokestatic 5, 3) := dk_184 0 5 (dk_at dksX0_day_0 10 rfl rfl)
theorem dX0_day_13 : decode cX0_day 13 = .ok (.ifCond .ne 5, 3) := dk_154 0 5 (dk_at dksX0_day_0 13 rfl rfl)
theorem dX0_day_16 : decode cX0_day 16 = .ok (.iconst (-1), 1) := dk_2 (dk_at dksX0_day_0 16 rfl rfl)
theorem dX0_day_17 : decode cX0_day 17 = .ok (.ireturn, 1) := dk_172 (dk_at dksX0_day_0 17 rfl rfl)
theorem dX0_day_18 : decode cX0_day 18 = .ok (.aload_n 0, 1) := dk_42 (dk_at dksX0_day_0 18 rfl rfl)
theorem dX0_day_19 : decode cX0_day 19 = .ok (.getfield 387, 3) := dk_180 1 131 (dk_at dksX0_day_0 19 rfl rfl)
theorem dX0_day_22 : decode cX0_day 22 = .ok (.istore_n 2, 1) := dk_61 (dk_at dksX0_day_0 22 rfl rfl)
theorem dX0_day_23 : decode cX0_day 23 = .ok (.aload_n 0, 1) := dk_42 (dk_at dksX0_day_0 23 rfl rfl)
theorem dX0_day_24 : decode cX0_day 24 = .ok (.iload_n 1, 1) := dk_27 (dk_at dksX0_day_1 0 rfl rfl)
theorem dX0_day_25 : decode cX0_day 25 = .ok (.putfield 387, 3) := dk_181 1 131 (dk_at dksX0_day_1 1 rfl rfl)
theorem dX0_day_28 : decode cX0_day 28 = .ok (.iload_n 2, 1) := dk_28 (dk_at dksX0_day_1 4 rfl rfl)
theorem dX0_day_29 : decode cX0_day 29 = .ok (.ireturn, 1) := dk_172 (dk_at dksX0_day_1 5 rfl rfl)
abbrev cX0_known : ByteArray := prog_1_method_69_code
def yX0_known : MethodName := ⟨RX0, "known", "(II)I"⟩
def dkwX0_known_4 : List UInt8 := [167, 0, 15, 28, 4, 160, 0, 8, 21, 4, 167, 0, 5, 21, 5, 172]
abbrev dktX0_known_4 : List UInt8 := dkwX0_known_4 ++ []
def dkwX0_known_3 : List UInt8 := [21, 6, 167, 0, 5, 21, 4, 54, 4, 21, 6, 54, 5, 132, 6, 1, 167, 255, 207, 28, 154, 0, 7, 29]
abbrev dktX0_known_3 : List UInt8 := dkwX0_known_3 ++ dktX0_known_4
def dkwX0_known_2 : List UInt8 := [42, 180, 1, 102, 21, 6, 50, 27, 182, 1, 136, 153, 0, 26, 132, 3, 1, 21, 4, 16, 252, 160, 0, 8]
abbrev dktX0_known_2 : List UInt8 := dkwX0_known_2 ++ dktX0_known_3
def dkwX0_known_1 : List UInt8 := [2, 172, 3, 62, 16, 252, 54, 4, 16, 252, 54, 5, 3, 54, 6, 21, 6, 42, 180, 1, 80, 162, 0, 46]
abbrev dktX0_known_1 : List UInt8 := dkwX0_known_1 ++ dktX0_known_2
def dkwX0_known_0 : List UInt8 := [27, 133, 9, 20, 1, 134, 184, 0, 5, 153, 0, 15, 28, 133, 9, 20, 0, 99, 184, 0, 5, 154, 0, 5]
abbrev dktX0_known_0 : List UInt8 := dkwX0_known_0 ++ dktX0_known_1
theorem dksX0_known_0 : cX0_known.data.toList.drop 0 = dktX0_known_0 := by decide +kernel
theorem dksX0_known_1 : cX0_known.data.toList.drop 24 = dktX0_known_1 := dk_seg dksX0_known_0 24 rfl rfl
theorem dksX0_known_2 : cX0_known.data.toList.drop 48 = dktX0_known_2 := dk_seg dksX0_known_1 24 rfl rfl
theorem dksX0_known_3 : cX0_known.data.toList.drop 72 = dktX0_known_3 := dk_seg dksX0_known_2 24 rfl rfl
theorem dksX0_known_4 : cX0_known.data.toList.drop 96 = dktX0_known_4 := dk_seg dksX0_known_3 24 rfl rfl
theorem dX0_known_0 : decode cX0_known 0 = .ok (.iload_n 1, 1) := dk_27 (dk_at dksX0_known_0 0 rfl rfl)
theorem dX0_known_1 : decode cX0_known 1 = .ok (.i2l, 1) := dk_133 (dk_at dksX0_known_0 1 rfl rfl)
theorem dX0_known_2 : decode cX0_known 2 = .ok (.lconst 0, 1) := dk_9 (dk_at dksX0_known_0 2 rfl rfl)
theorem dX0_known_3 : decode cX0_known 3 = .ok (.ldc2_w 390, 3) := dk_20 1 134 (dk_at dksX0_known_0 3 rfl rfl)
theorem dX0_known_6 : decode cX0_known 6 = .ok (.invokestatic 5, 3) := dk_184 0 5 (dk_at dksX0_known_0 6 rfl rfl)
theorem dX0_known_9 : decode cX0_known 9 = .ok (.ifCond .eq 15, 3) := dk_153 0 15 (dk_at dksX0_known_0 9 rfl rfl)
theorem dX0_known_12 : decode cX0_known 12 = .ok (.iload_n 2, 1) := dk_28 (dk_at dksX0_known_0 12 rfl rfl)
theorem dX0_known_13 : decode cX0_known 13 = .ok (.i2l, 1) := dk_133 (dk_at dksX0_known_0 13 rfl rfl)
theorem dX0_known_14 : decode cX0_known 14 = .ok (.lconst 0, 1) := dk_9 (dk_at dksX0_known_0 14 rfl rfl)
theorem dX0_known_15 : decode cX0_known 15 = .ok (.ldc2_w 99, 3) := dk_20 0 99 (dk_at dksX0_known_0 15 rfl rfl)
theorem dX0_known_18 : decode cX0_known 18 = .ok (.invokestatic 5, 3) := dk_184 0 5 (dk_at dksX0_known_0 18 rfl rfl)
theorem dX0_known_21 : decode cX0_known 21 = .ok (.ifCond .ne 5, 3) := dk_154 0 5 (dk_at dksX0_known_0 21 rfl rfl)
theorem dX0_known_24 : decode cX0_known 24 = .ok (.iconst (-1), 1) := dk_2 (dk_at dksX0_known_1 0 rfl rfl)
theorem dX0_known_25 : decode cX0_known 25 = .ok (.ireturn, 1) := dk_172 (dk_at dksX0_known_1 1 rfl rfl)
theorem dX0_known_26 : decode cX0_known 26 = .ok (.iconst 0, 1) := dk_3 (dk_at dksX0_known_1 2 rfl rfl)
theorem dX0_known_27 : decode cX0_known 27 = .ok (.istore_n 3, 1) := dk_62 (dk_at dksX0_known_1 3 rfl rfl)
theorem dX0_known_28 : decode cX0_known 28 = .ok (.bipush (-4), 2) := dk_16 252 (dk_at dksX0_known_1 4 rfl rfl)
theorem dX0_known_30 : decode cX0_known 30 = .ok (.istore 4, 2) := dk_54 4 (dk_at dksX0_known_1 6 rfl rfl)
theorem dX0_known_32 : decode cX0_known 32 = .ok (.bipush (-4), 2) := dk_16 252 (dk_at dksX0_known_1 8 rfl rfl)
theorem dX0_known_34 : decode cX0_known 34 = .ok (.istore 5, 2) := dk_54 5 (dk_at dksX0_known_1 10 rfl rfl)
theorem dX0_known_36 : decode cX0_known 36 = .ok (.iconst 0, 1) := dk_3 (dk_at dksX0_known_1 12 rfl rfl)
theorem dX0_known_37 : decode cX0_known 37 = .ok (.istore 6, 2) := dk_54 6 (dk_at dksX0_known_1 13 rfl rfl)
theorem dX0_known_39 : decode cX0_known 39 = .ok (.iload 6, 2) := dk_21 6 (dk_at dksX0_known_1 15 rfl rfl)
theorem dX0_known_41 : decode cX0_known 41 = .ok (.aload_n 0, 1) := dk_42 (dk_at dksX0_known_1 17 rfl rfl)
theorem dX0_known_42 : decode cX0_known 42 = .ok (.getfield 336, 3) := dk_180 1 80 (dk_at dksX0_known_1 18 rfl rfl)
theorem dX0_known_45 : decode cX0_known 45 = .ok (.if_icmp .ge 46, 3) := dk_162 0 46 (dk_at dksX0_known_1 21 rfl rfl)
theorem dX0_known_48 : decode cX0_known 48 = .ok (.aload_n 0, 1) := dk_42 (dk_at dksX0_known_2 0 rfl rfl)
theorem dX0_known_49 : decode cX0_known 49 = .ok (.getfield 358, 3) := dk_180 1 102 (dk_at dksX0_known_2 1 rfl rfl)
theorem dX0_known_52 : decode cX0_known 52 = .ok (.iload 6, 2) := dk_21 6 (dk_at dksX0_known_2 4 rfl rfl)
theorem dX0_known_54 : decode cX0_known 54 = .ok (.aaload, 1) := dk_50 (dk_at dksX0_known_2 6 rfl rfl)
theorem dX0_known_55 : decode cX0_known 55 = .ok (.iload_n 1, 1) := dk_27 (dk_at dksX0_known_2 7 rfl rfl)
theorem dX0_known_56 : decode cX0_known 56 = .ok (.invokevirtual 392, 3) := dk_182 1 136 (dk_at dksX0_known_2 8 rfl rfl)
theorem dX0_known_59 : decode cX0_known 59 = .ok (.ifCond .eq 26, 3) := dk_153 0 26 (dk_at dksX0_known_2 11 rfl rfl)
theorem dX0_known_62 : decode cX0_known 62 = .ok (.iinc 3 1, 3) := dk_132 3 1 (dk_at dksX0_known_2 14 rfl rfl)
theorem dX0_known_65 : decode cX0_known 65 = .ok (.iload 4, 2) := dk_21 4 (dk_at dksX0_known_2 17 rfl rfl)
theorem dX0_known_67 : decode cX0_known 67 = .ok (.bipush (-4), 2) := dk_16 252 (dk_at dksX0_known_2 19 rfl rfl)
theorem dX0_known_69 : decode cX0_known 69 = .ok (.if_icmp .ne 8, 3) := dk_160 0 8 (dk_at dksX0_known_2 21 rfl rfl)
theorem dX0_known_72 : decode cX0_known 72 = .ok (.iload 6, 2) := dk_21 6 (dk_at dksX0_known_3 0 rfl rfl)
theorem dX0_known_74 : decode cX0_known 74 = .ok (.goto 5, 3) := dk_167 0 5 (dk_at dksX0_known_3 2 rfl rfl)
theorem dX0_known_77 : decode cX0_known 77 = .ok (.iload 4, 2) := dk_21 4 (dk_at dksX0_known_3 5 rfl rfl)
theorem dX0_known_79 : decode cX0_known 79 = .ok (.istore 4, 2) := dk_54 4 (dk_at dksX0_known_3 7 rfl rfl)
theorem dX0_known_81 : decode cX0_known 81 = .ok (.iload 6, 2) := dk_21 6 (dk_at dksX0_known_3 9 rfl rfl)
theorem dX0_known_83 : decode cX0_known 83 = .ok (.istore 5, 2) := dk_54 5 (dk_at dksX0_known_3 11 rfl rfl)
theorem dX0_known_85 : decode cX0_known 85 = .ok (.iinc 6 1, 3) := dk_132 6 1 (dk_at dksX0_known_3 13 rfl rfl)
theorem dX0_known_88 : decode cX0_known 88 = .ok (.goto (-49), 3) := dk_167 255 207 (dk_at dksX0_known_3 16 rfl rfl)
theorem dX0_known_91 : decode cX0_known 91 = .ok (.iload_n 2, 1) := dk_28 (dk_at dksX0_known_3 19 rfl rfl)
theorem dX0_known_92 : decode cX0_known 92 = .ok (.ifCond .ne 7, 3) := dk_154 0 7 (dk_at dksX0_known_3 20 rfl rfl)
theorem dX0_known_95 : decode cX0_known 95 = .ok (.iload_n 3, 1) := dk_29 (dk_at dksX0_known_3 23 rfl rfl)
theorem dX0_known_96 : decode cX0_known 96 = .ok (.goto 15, 3) := dk_167 0 15 (dk_at dksX0_known_4 0 rfl rfl)
theorem dX0_known_99 : decode cX0_known 99 = .ok (.iload_n 2, 1) := dk_28 (dk_at dksX0_known_4 3 rfl rfl)
theorem dX0_known_100 : decode cX0_known 100 = .ok (.iconst 1, 1) := dk_4 (dk_at dksX0_known_4 4 rfl rfl)
theorem dX0_known_101 : decode cX0_known 101 = .ok (.if_icmp .ne 8, 3) := dk_160 0 8 (dk_at dksX0_known_4 5 rfl rfl)
theorem dX0_known_104 : decode cX0_known 104 = .ok (.iload 4, 2) := dk_21 4 (dk_at dksX0_known_4 8 rfl rfl)
theorem dX0_known_106 : decode cX0_known 106 = .ok (.goto 5, 3) := dk_167 0 5 (dk_at dksX0_known_4 10 rfl rfl)
theorem dX0_known_109 : decode cX0_known 109 = .ok (.iload 5, 2) := dk_21 5 (dk_at dksX0_known_4 13 rfl rfl)
theorem dX0_known_111 : decode cX0_known 111 = .ok (.ireturn, 1) := dk_172 (dk_at dksX0_known_4 15 rfl rfl)
abbrev cX0_init : ByteArray := prog_1_method_70_code
def yX0_init : MethodName := ⟨RX0, "<init>", "()V"⟩
def dkwX0_init_13 : List UInt8 := [89, 6, 187, 1, 146, 89, 183, 1, 148, 83, 181, 1, 149, 177]
abbrev dktX0_init_13 : List UInt8 := dkwX0_init_13 ++ []
def dkwX0_init_12 : List UInt8 := [183, 1, 148, 83, 89, 4, 187, 1, 146, 89, 183, 1, 148, 83, 89, 5, 187, 1, 146, 89, 183, 1, 148, 83]
abbrev dktX0_init_12 : List UInt8 := dkwX0_init_12 ++ dktX0_init_13
def dkwX0_init_11 : List UInt8 := [181, 1, 102, 42, 17, 0, 160, 188, 8, 181, 1, 76, 42, 7, 189, 1, 146, 89, 3, 187, 1, 146, 89]
abbrev dktX0_init_11 : List UInt8 := dkwX0_init_11 ++ dktX0_init_12
def dkwX0_init_10 : List UInt8 := [17, 0, 192, 189, 1, 145, 181, 1, 27, 42, 16, 6, 188, 10, 181, 1, 60, 42, 16, 20, 189, 1, 107]
abbrev dktX0_init_10 : List UInt8 := dkwX0_init_10 ++ dktX0_init_11
def dkwX0_init_9 : List UInt8 := [16, 6, 188, 10, 181, 1, 16, 42, 16, 24, 188, 10, 181, 1, 10, 42, 16, 6, 188, 10, 181, 1, 30, 42]
abbrev dktX0_init_9 : List UInt8 := dkwX0_init_9 ++ dktX0_init_10
def dkwX0_init_8 : List UInt8 := [197, 1, 144, 2, 181, 0, 249, 42, 7, 188, 10, 181, 0, 229, 42, 16, 24, 188, 10, 181, 0, 232, 42]
abbrev dktX0_init_8 : List UInt8 := dkwX0_init_8 ++ dktX0_init_9
def dkwX0_init_7 : List UInt8 := [189, 0, 223, 181, 0, 219, 42, 16, 12, 189, 1, 4, 181, 1, 0, 42, 16, 7, 17, 16, 0]
abbrev dktX0_init_7 : List UInt8 := dkwX0_init_7 ++ dktX0_init_8
def dkwX0_init_6 : List UInt8 := [188, 10, 181, 0, 191, 42, 16, 8, 188, 10, 181, 0, 194, 42, 7, 188, 10, 181, 0, 197, 42, 7]
abbrev dktX0_init_6 : List UInt8 := dkwX0_init_6 ++ dktX0_init_7
def dkwX0_init_5 : List UInt8 := [188, 10, 181, 0, 156, 42, 16, 8, 188, 10, 181, 0, 159, 42, 16, 8, 188, 10, 181, 0, 166, 42, 16, 8]
abbrev dktX0_init_5 : List UInt8 := dkwX0_init_5 ++ dktX0_init_6
def dkwX0_init_4 : List UInt8 := [16, 24, 197, 1, 143, 2, 181, 0, 135, 42, 16, 24, 16, 24, 197, 1, 143, 2, 181, 0, 139, 42, 16, 8]
abbrev dktX0_init_4 : List UInt8 := dkwX0_init_4 ++ dktX0_init_5
def dkwX0_init_3 : List UInt8 := [181, 0, 116, 42, 17, 0, 192, 188, 10, 181, 0, 122, 42, 17, 0, 192, 188, 10, 181, 0, 119, 42, 16, 24]
abbrev dktX0_init_3 : List UInt8 := dkwX0_init_3 ++ dktX0_init_4
def dkwX0_init_2 : List UInt8 := [42, 16, 24, 188, 10, 181, 0, 101, 42, 16, 24, 188, 10, 181, 0, 110, 42, 17, 0, 192, 188, 10]
abbrev dktX0_init_2 : List UInt8 := dkwX0_init_2 ++ dktX0_init_3
def dkwX0_init_1 : List UInt8 := [181, 0, 22, 42, 16, 24, 16, 24, 197, 1, 143, 2, 181, 0, 145, 42, 16, 8, 189, 0, 54, 181, 0, 61]
abbrev dktX0_init_1 : List UInt8 := dkwX0_init_1 ++ dktX0_init_2
def dkwX0_init_0 : List UInt8 := [42, 183, 1, 139, 42, 16, 24, 188, 10, 181, 0, 13, 42, 4, 181, 0, 19, 42, 16, 24, 188, 10]
abbrev dktX0_init_0 : List UInt8 := dkwX0_init_0 ++ dktX0_init_1
theorem dksX0_init_0 : cX0_init.data.toList.drop 0 = dktX0_init_0 := by decide +kernel
theorem dksX0_init_1 : cX0_init.data.toList.drop 22 = dktX0_init_1 := dk_seg dksX0_init_0 22 rfl rfl
theorem dksX0_init_2 : cX0_init.data.toList.drop 46 = dktX0_init_2 := dk_seg dksX0_init_1 24 rfl rfl
theorem dksX0_init_3 : cX0_init.data.toList.drop 68 = dktX0_init_3 := dk_seg dksX0_init_2 22 rfl rfl
theorem dksX0_init_4 : cX0_init.data.toList.drop 92 = dktX0_init_4 := dk_seg dksX0_init_3 24 rfl rfl
theorem dksX0_init_5 : cX0_init.data.toList.drop 116 = dktX0_init_5 := dk_seg dksX0_init_4 24 rfl rfl
theorem dksX0_init_6 : cX0_init.data.toList.drop 140 = dktX0_init_6 := dk_seg dksX0_init_5 24 rfl rfl
theorem dksX0_init_7 : cX0_init.data.toList.drop 162 = dktX0_init_7 := dk_seg dksX0_init_6 22 rfl rfl
theorem dksX0_init_8 : cX0_init.data.toList.drop 183 = dktX0_init_8 := dk_seg dksX0_init_7 21 rfl rfl
theorem dksX0_init_9 : cX0_init.data.toList.drop 206 = dktX0_init_9 := dk_seg dksX0_init_8 23 rfl rfl
theorem dksX0_init_10 : cX0_init.data.toList.drop 230 = dktX0_init_10 := dk_seg dksX0_init_9 24 rfl rfl
theorem dksX0_init_11 : cX0_init.data.toList.drop 253 = dktX0_init_11 := dk_seg dksX0_init_10 23 rfl rfl
theorem dksX0_init_12 : cX0_init.data.toList.drop 276 = dktX0_init_12 := dk_seg dksX0_init_11 23 rfl rfl
theorem dksX0_init_13 : cX0_init.data.toList.drop 300 = dktX0_init_13 := dk_seg dksX0_init_12 24 rfl rfl
theorem dX0_init_0 : decode cX0_init 0 = .ok (.aload_n 0, 1) := dk_42 (dk_at dksX0_init_0 0 rfl rfl)
theorem dX0_init_1 : decode cX0_init 1 = .ok (.invokespecial 395, 3) := dk_183 1 139 (dk_at dksX0_init_0 1 rfl rfl)
theorem dX0_init_4 : decode cX0_init 4 = .ok (.aload_n 0, 1) := dk_42 (dk_at dksX0_init_0 4 rfl rfl)
theorem dX0_init_5 : decode cX0_init 5 = .ok (.bipush 24, 2) := dk_16 24 (dk_at dksX0_init_0 5 rfl rfl)
theorem dX0_init_7 : decode cX0_init 7 = .ok (.newarray .int, 2) := dk_188_10 (dk_at dksX0_init_0 7 rfl rfl)
theorem dX0_init_9 : decode cX0_init 9 = .ok (.putfield 13, 3) := dk_181 0 13 (dk_at dksX0_init_0 9 rfl rfl)
theorem dX0_init_12 : decode cX0_init 12 = .ok (.aload_n 0, 1) := dk_42 (dk_at dksX0_init_0 12 rfl rfl)
theorem dX0_init_13 : decode cX0_init 13 = .ok (.iconst 1, 1) := dk_4 (dk_at dksX0_init_0 13 rfl rfl)
theorem dX0_init_14 : decode cX0_init 14 = .ok (.putfield 19, 3) := dk_181 0 19 (dk_at dksX0_init_0 14 rfl rfl)
theorem dX0_init_17 : decode cX0_init 17 = .ok (.aload_n 0, 1) := dk_42 (dk_at dksX0_init_0 17 rfl rfl)
theorem dX0_init_18 : decode cX0_init 18 = .ok (.bipush 24, 2) := dk_16 24 (dk_at dksX0_init_0 18 rfl rfl)
theorem dX0_init_20 : decode cX0_init 20 = .ok (.newarray .int, 2) := dk_188_10 (dk_at dksX0_init_0 20 rfl rfl)
theorem dX0_init_22 : decode cX0_init 22 = .ok (.putfield 22, 3) := dk_181 0 22 (dk_at dksX0_init_1 0 rfl rfl)
theorem dX0_init_25 : decode cX0_init 25 = .ok (.aload_n 0, 1) := dk_42 (dk_at dksX0_init_1 3 rfl rfl)
theorem dX0_init_26 : decode cX0_init 26 = .ok (.bipush 24, 2) := dk_16 24 (dk_at dksX0_init_1 4 rfl rfl)
theorem dX0_init_28 : decode cX0_init 28 = .ok (.bipush 24, 2) := dk_16 24 (dk_at dksX0_init_1 6 rfl rfl)
theorem dX0_init_30 : decode cX0_init 30 = .ok (.multianewarray 399 2, 4) := by decide +kernel
theorem dX0_init_34 : decode cX0_init 34 = .ok (.putfield 145, 3) := dk_181 0 145 (dk_at dksX0_init_1 12 rfl rfl)
theorem dX0_init_37 : decode cX0_init 37 = .ok (.aload_n 0, 1) := dk_42 (dk_at dksX0_init_1 15 rfl rfl)
theorem dX0_init_38 : decode cX0_init 38 = .ok (.bipush 8, 2) := dk_16 8 (dk_at dksX0_init_1 16 rfl rfl)
theorem dX0_init_40 : decode cX0_init 40 = .ok (.anewarray 54, 3) := dk_189 0 54 (dk_at dksX0_init_1 18 rfl rfl)
theorem dX0_init_43 : decode cX0_init 43 = .ok (.putfield 61, 3) := dk_181 0 61 (dk_at dksX0_init_1 21 rfl rfl)
theorem dX0_init_46 : decode cX0_init 46 = .ok (.aload_n 0, 1) := dk_42 (dk_at dksX0_init_2 0 rfl rfl)
theorem dX0_init_47 : decode cX0_init 47 = .ok (.bipush 24, 2) := dk_16 24 (dk_at dksX0_init_2 1 rfl rfl)
theorem dX0_init_49 : decode cX0_init 49 = .ok (.newarray .int, 2) := dk_188_10 (dk_at dksX0_init_2 3 rfl rfl)
theorem dX0_init_51 : decode cX0_init 51 = .ok (.putfield 101, 3) := dk_181 0 101 (dk_at dksX0_init_2 5 rfl rfl)
theorem dX0_init_54 : decode cX0_init 54 = .ok (.aload_n 0, 1) := dk_42 (dk_at dksX0_init_2 8 rfl rfl)
theorem dX0_init_55 : decode cX0_init 55 = .ok (.bipush 24, 2) := dk_16 24 (dk_at dksX0_init_2 9 rfl rfl)
theorem dX0_init_57 : decode cX0_init 57 = .ok (.newarray .int, 2) := dk_188_10 (dk_at dksX0_init_2 11 rfl rfl)
theorem dX0_init_59 : decode cX0_init 59 = .ok (.putfield 110, 3) := dk_181 0 110 (dk_at dksX0_init_2 13 rfl rfl)
theorem dX0_init_62 : decode cX0_init 62 = .ok (.aload_n 0, 1) := dk_42 (dk_at dksX0_init_2 16 rfl rfl)
theorem dX0_init_63 : decode cX0_init 63 = .ok (.sipush 192, 3) := dk_17 0 192 (dk_at dksX0_init_2 17 rfl rfl)
theorem dX0_init_66 : decode cX0_init 66 = .ok (.newarray .int, 2) := dk_188_10 (dk_at dksX0_init_2 20 rfl rfl)
theorem dX0_init_68 : decode cX0_init 68 = .ok (.putfield 116, 3) := dk_181 0 116 (dk_at dksX0_init_3 0 rfl rfl)
theorem dX0_init_71 : decode cX0_init 71 = .ok (.aload_n 0, 1) := dk_42 (dk_at dksX0_init_3 3 rfl rfl)
theorem dX0_init_72 : decode cX0_init 72 = .ok (.sipush 192, 3) := dk_17 0 192 (dk_at dksX0_init_3 4 rfl rfl)
theorem dX0_init_75 : decode cX0_init 75 = .ok (.newarray .int, 2) := dk_188_10 (dk_at dksX0_init_3 7 rfl rfl)
theorem dX0_init_77 : decode cX0_init 77 = .ok (.putfield 122, 3) := dk_181 0 122 (dk_at dksX0_init_3 9 rfl rfl)
theorem dX0_init_80 : decode cX0_init 80 = .ok (.aload_n 0, 1) := dk_42 (dk_at dksX0_init_3 12 rfl rfl)
theorem dX0_init_81 : decode cX0_init 81 = .ok (.sipush 192, 3) := dk_17 0 192 (dk_at dksX0_init_3 13 rfl rfl)
theorem dX0_init_84 : decode cX0_init 84 = .ok (.newarray .int, 2) := dk_188_10 (dk_at dksX0_init_3 16 rfl rfl)
theorem dX0_init_86 : decode cX0_init 86 = .ok (.putfield 119, 3) := dk_181 0 119 (dk_at dksX0_init_3 18 rfl rfl)
theorem dX0_init_89 : decode cX0_init 89 = .ok (.aload_n 0, 1) := dk_42 (dk_at dksX0_init_3 21 rfl rfl)
theorem dX0_init_90 : decode cX0_init 90 = .ok (.bipush 24, 2) := dk_16 24 (dk_at dksX0_init_3 22 rfl rfl)
theorem dX0_init_92 : decode cX0_init 92 = .ok (.bipush 24, 2) := dk_16 24 (dk_at dksX0_init_4 0 rfl rfl)
theorem dX0_init_94 : decode cX0_init 94 = .ok (.multianewarray 399 2, 4) := by decide +kernel
theorem dX0_init_98 : decode cX0_init 98 = .ok (.putfield 135, 3) := dk_181 0 135 (dk_at dksX0_init_4 6 rfl rfl)
theorem dX0_init_101 : decode cX0_init 101 = .ok (.aload_n 0, 1) := dk_42 (dk_at dksX0_init_4 9 rfl rfl)
theorem dX0_init_102 : decode cX0_init 102 = .ok (.bipush 24, 2) := dk_16 24 (dk_at dksX0_init_4 10 rfl rfl)
theorem dX0_init_104 : decode cX0_init 104 = .ok (.bipush 24, 2) := dk_16 24 (dk_at dksX0_init_4 12 rfl rfl)
theorem dX0_init_106 : decode cX0_init 106 = .ok (.multianewarray 399 2, 4) := by decide +kernel
theorem dX0_init_110 : decode cX0_init 110 = .ok (.putfield 139, 3) := dk_181 0 139 (dk_at dksX0_init_4 18 rfl rfl)
theorem dX0_init_113 : decode cX0_init 113 = .ok (.aload_n 0, 1) := dk_42 (dk_at dksX0_init_4 21 rfl rfl)
theorem dX0_init_114 : decode cX0_init 114 = .ok (.bipush 8, 2) := dk_16 8 (dk_at dksX0_init_4 22 rfl rfl)
theorem dX0_init_116 : decode cX0_init 116 = .ok (.newarray .int, 2) := dk_188_10 (dk_at dksX0_init_5 0 rfl rfl)
theorem dX0_init_118 : decode cX0_init 118 = .ok (.putfield 156, 3) := dk_181 0 156 (dk_at dksX0_init_5 2 rfl rfl)
theorem dX0_init_121 : decode cX0_init 121 = .ok (.aload_n 0, 1) := dk_42 (dk_at dksX0_init_5 5 rfl rfl)
theorem dX0_init_122 : decode cX0_init 122 = .ok (.bipush 8, 2) := dk_16 8 (dk_at dksX0_init_5 6 rfl rfl)
theorem dX0_init_124 : decode cX0_init 124 = .ok (.newarray .int, 2) := dk_188_10 (dk_at dksX0_init_5 8 rfl rfl)
theorem dX0_init_126 : decode cX0_init 126 = .ok (.putfield 159, 3) := dk_181 0 159 (dk_at dksX0_init_5 10 rfl rfl)
theorem dX0_init_129 : decode cX0_init 129 = .ok (.aload_n 0, 1) := dk_42 (dk_at dksX0_init_5 13 rfl rfl)
theorem dX0_init_130 : decode cX0_init 130 = .ok (.bipush 8, 2) := dk_16 8 (dk_at dksX0_init_5 14 rfl rfl)
theorem dX0_init_132 : decode cX0_init 132 = .ok (.newarray .int, 2) := dk_188_10 (dk_at dksX0_init_5 16 rfl rfl)
theorem dX0_init_134 : decode cX0_init 134 = .ok (.putfield 166, 3) := dk_181 0 166 (dk_at dksX0_init_5 18 rfl rfl)
theorem dX0_init_137 : decode cX0_init 137 = .ok (.aload_n 0, 1) := dk_42 (dk_at dksX0_init_5 21 rfl rfl)
theorem dX0_init_138 : decode cX0_init 138 = .ok (.bipush 8, 2) := dk_16 8 (dk_at dksX0_init_5 22 rfl rfl)
theorem dX0_init_140 : decode cX0_init 140 = .ok (.newarray .int, 2) := dk_188_10 (dk_at dksX0_init_6 0 rfl rfl)
theorem dX0_init_142 : decode cX0_init 142 = .ok (.putfield 191, 3) := dk_181 0 191 (dk_at dksX0_init_6 2 rfl rfl)
theorem dX0_init_145 : decode cX0_init 145 = .ok (.aload_n 0, 1) := dk_42 (dk_at dksX0_init_6 5 rfl rfl)
theorem dX0_init_146 : decode cX0_init 146 = .ok (.bipush 8, 2) := dk_16 8 (dk_at dksX0_init_6 6 rfl rfl)
theorem dX0_init_148 : decode cX0_init 148 = .ok (.newarray .int, 2) := dk_188_10 (dk_at dksX0_init_6 8 rfl rfl)
theorem dX0_init_150 : decode cX0_init 150 = .ok (.putfield 194, 3) := dk_181 0 194 (dk_at dksX0_init_6 10 rfl rfl)
theorem dX0_init_153 : decode cX0_init 153 = .ok (.aload_n 0, 1) := dk_42 (dk_at dksX0_init_6 13 rfl rfl)
theorem dX0_init_154 : decode cX0_init 154 = .ok (.iconst 4, 1) := dk_7 (dk_at dksX0_init_6 14 rfl rfl)
theorem dX0_init_155 : decode cX0_init 155 = .ok (.newarray .int, 2) := dk_188_10 (dk_at dksX0_init_6 15 rfl rfl)
theorem dX0_init_157 : decode cX0_init 157 = .ok (.putfield 197, 3) := dk_181 0 197 (dk_at dksX0_init_6 17 rfl rfl)
theorem dX0_init_160 : decode cX0_init 160 = .ok (.aload_n 0, 1) := dk_42 (dk_at dksX0_init_6 20 rfl rfl)
theorem dX0_init_161 : decode cX0_init 161 = .ok (.iconst 4, 1) := dk_7 (dk_at dksX0_init_6 21 rfl rfl)
theorem dX0_init_162 : decode cX0_init 162 = .ok (.anewarray 223, 3) := dk_189 0 223 (dk_at dksX0_init_7 0 rfl rfl)
theorem dX0_init_165 : decode cX0_init 165 = .ok (.putfield 219, 3) := dk_181 0 219 (dk_at dksX0_init_7 3 rfl rfl)
theorem dX0_init_168 : decode cX0_init 168 = .ok (.aload_n 0, 1) := dk_42 (dk_at dksX0_init_7 6 rfl rfl)
theorem dX0_init_169 : decode cX0_init 169 = .ok (.bipush 12, 2) := dk_16 12 (dk_at dksX0_init_7 7 rfl rfl)
theorem dX0_init_171 : decode cX0_init 171 = .ok (.anewarray 260, 3) := dk_189 1 4 (dk_at dksX0_init_7 9 rfl rfl)
theorem dX0_init_174 : decode cX0_init 174 = .ok (.putfield 256, 3) := dk_181 1 0 (dk_at dksX0_init_7 12 rfl rfl)
theorem dX0_init_177 : decode cX0_init 177 = .ok (.aload_n 0, 1) := dk_42 (dk_at dksX0_init_7 15 rfl rfl)
theorem dX0_init_178 : decode cX0_init 178 = .ok (.bipush 7, 2) := dk_16 7 (dk_at dksX0_init_7 16 rfl rfl)
theorem dX0_init_180 : decode cX0_init 180 = .ok (.sipush 4096, 3) := dk_17 16 0 (dk_at dksX0_init_7 18 rfl rfl)
theorem dX0_init_183 : decode cX0_init 183 = .ok (.multianewarray 400 2, 4) := by decide +kernel
theorem dX0_init_187 : decode cX0_init 187 = .ok (.putfield 249, 3) := dk_181 0 249 (dk_at dksX0_init_8 4 rfl rfl)
theorem dX0_init_190 : decode cX0_init 190 = .ok (.aload_n 0, 1) := dk_42 (dk_at dksX0_init_8 7 rfl rfl)
theorem dX0_init_191 : decode cX0_init 191 = .ok (.iconst 4, 1) := dk_7 (dk_at dksX0_init_8 8 rfl rfl)
theorem dX0_init_192 : decode cX0_init 192 = .ok (.newarray .int, 2) := dk_188_10 (dk_at dksX0_init_8 9 rfl rfl)
theorem dX0_init_194 : decode cX0_init 194 = .ok (.putfield 229, 3) := dk_181 0 229 (dk_at dksX0_init_8 11 rfl rfl)
theorem dX0_init_197 : decode cX0_init 197 = .ok (.aload_n 0, 1) := dk_42 (dk_at dksX0_init_8 14 rfl rfl)
theorem dX0_init_198 : decode cX0_init 198 = .ok (.bipush 24, 2) := dk_16 24 (dk_at dksX0_init_8 15 rfl rfl)
theorem dX0_init_200 : decode cX0_init 200 = .ok (.newarray .int, 2) := dk_188_10 (dk_at dksX0_init_8 17 rfl rfl)
theorem dX0_init_202 : decode cX0_init 202 = .ok (.putfield 232, 3) := dk_181 0 232 (dk_at dksX0_init_8 19 rfl rfl)
theorem dX0_init_205 : decode cX0_init 205 = .ok (.aload_n 0, 1) := dk_42 (dk_at dksX0_init_8 22 rfl rfl)
theorem dX0_init_206 : decode cX0_init 206 = .ok (.bipush 6, 2) := dk_16 6 (dk_at dksX0_init_9 0 rfl rfl)
theorem dX0_init_208 : decode cX0_init 208 = .ok (.newarray .int, 2) := dk_188_10 (dk_at dksX0_init_9 2 rfl rfl)
theorem dX0_init_210 : decode cX0_init 210 = .ok (.putfield 272, 3) := dk_181 1 16 (dk_at dksX0_init_9 4 rfl rfl)
theorem dX0_init_213 : decode cX0_init 213 = .ok (.aload_n 0, 1) := dk_42 (dk_at dksX0_init_9 7 rfl rfl)
theorem dX0_init_214 : decode cX0_init 214 = .ok (.bipush 24, 2) := dk_16 24 (dk_at dksX0_init_9 8 rfl rfl)
theorem dX0_init_216 : decode cX0_init 216 = .ok (.newarray .int, 2) := dk_188_10 (dk_at dksX0_init_9 10 rfl rfl)
theorem dX0_init_218 : decode cX0_init 218 = .ok (.putfield 266, 3) := dk_181 1 10 (dk_at dksX0_init_9 12 rfl rfl)
theorem dX0_init_221 : decode cX0_init 221 = .ok (.aload_n 0, 1) := dk_42 (dk_at dksX0_init_9 15 rfl rfl)
theorem dX0_init_222 : decode cX0_init 222 = .ok (.bipush 6, 2) := dk_16 6 (dk_at dksX0_init_9 16 rfl rfl)
theorem dX0_init_224 : decode cX0_init 224 = .ok (.newarray .int, 2) := dk_188_10 (dk_at dksX0_init_9 18 rfl rfl)
theorem dX0_init_226 : decode cX0_init 226 = .ok (.putfield 286, 3) := dk_181 1 30 (dk_at dksX0_init_9 20 rfl rfl)
theorem dX0_init_229 : decode cX0_init 229 = .ok (.aload_n 0, 1) := dk_42 (dk_at dksX0_init_9 23 rfl rfl)
theorem dX0_init_230 : decode cX0_init 230 = .ok (.sipush 192, 3) := dk_17 0 192 (dk_at dksX0_init_10 0 rfl rfl)
theorem dX0_init_233 : decode cX0_init 233 = .ok (.anewarray 401, 3) := dk_189 1 145 (dk_at dksX0_init_10 3 rfl rfl)
theorem dX0_init_236 : decode cX0_init 236 = .ok (.putfield 283, 3) := dk_181 1 27 (dk_at dksX0_init_10 6 rfl rfl)
theorem dX0_init_239 : decode cX0_init 239 = .ok (.aload_n 0, 1) := dk_42 (dk_at dksX0_init_10 9 rfl rfl)
theorem dX0_init_240 : decode cX0_init 240 = .ok (.bipush 6, 2) := dk_16 6 (dk_at dksX0_init_10 10 rfl rfl)
theorem dX0_init_242 : decode cX0_init 242 = .ok (.newarray .int, 2) := dk_188_10 (dk_at dksX0_init_10 12 rfl rfl)
theorem dX0_init_244 : decode cX0_init 244 = .ok (.putfield 316, 3) := dk_181 1 60 (dk_at dksX0_init_10 14 rfl rfl)
theorem dX0_init_247 : decode cX0_init 247 = .ok (.aload_n 0, 1) := dk_42 (dk_at dksX0_init_10 17 rfl rfl)
theorem dX0_init_248 : decode cX0_init 248 = .ok (.bipush 20, 2) := dk_16 20 (dk_at dksX0_init_10 18 rfl rfl)
theorem dX0_init_250 : decode cX0_init 250 = .ok (.anewarray 363, 3) := dk_189 1 107 (dk_at dksX0_init_10 20 rfl rfl)
theorem dX0_init_253 : decode cX0_init 253 = .ok (.putfield 358, 3) := dk_181 1 102 (dk_at dksX0_init_11 0 rfl rfl)
theorem dX0_init_256 : decode cX0_init 256 = .ok (.aload_n 0, 1) := dk_42 (dk_at dksX0_init_11 3 rfl rfl)
theorem dX0_init_257 : decode cX0_init 257 = .ok (.sipush 160, 3) := dk_17 0 160 (dk_at dksX0_init_11 4 rfl rfl)
theorem dX0_init_260 : decode cX0_init 260 = .ok (.newarray .byte, 2) := dk_188_8 (dk_at dksX0_init_11 7 rfl rfl)
theorem dX0_init_262 : decode cX0_init 262 = .ok (.putfield 332, 3) := dk_181 1 76 (dk_at dksX0_init_11 9 rfl rfl)
theorem dX0_init_265 : decode cX0_init 265 = .ok (.aload_n 0, 1) := dk_42 (dk_at dksX0_init_11 12 rfl rfl)
theorem dX0_init_266 : decode cX0_init 266 = .ok (.iconst 4, 1) := dk_7 (dk_at dksX0_init_11 13 rfl rfl)
theorem dX0_init_267 : decode cX0_init 267 = .ok (.anewarray 402, 3) := dk_189 1 146 (dk_at dksX0_init_11 14 rfl rfl)
theorem dX0_init_270 : decode cX0_init 270 = .ok (.dup, 1) := dk_89 (dk_at dksX0_init_11 17 rfl rfl)
theorem dX0_init_271 : decode cX0_init 271 = .ok (.iconst 0, 1) := dk_3 (dk_at dksX0_init_11 18 rfl rfl)
theorem dX0_init_272 : decode cX0_init 272 = .ok (.new 402, 3) := dk_187 1 146 (dk_at dksX0_init_11 19 rfl rfl)
theorem dX0_init_275 : decode cX0_init 275 = .ok (.dup, 1) := dk_89 (dk_at dksX0_init_11 22 rfl rfl)
theorem dX0_init_276 : decode cX0_init 276 = .ok (.invokespecial 404, 3) := dk_183 1 148 (dk_at dksX0_init_12 0 rfl rfl)
theorem dX0_init_279 : decode cX0_init 279 = .ok (.aastore, 1) := dk_83 (dk_at dksX0_init_12 3 rfl rfl)
theorem dX0_init_280 : decode cX0_init 280 = .ok (.dup, 1) := dk_89 (dk_at dksX0_init_12 4 rfl rfl)
theorem dX0_init_281 : decode cX0_init 281 = .ok (.iconst 1, 1) := dk_4 (dk_at dksX0_init_12 5 rfl rfl)
theorem dX0_init_282 : decode cX0_init 282 = .ok (.new 402, 3) := dk_187 1 146 (dk_at dksX0_init_12 6 rfl rfl)
theorem dX0_init_285 : decode cX0_init 285 = .ok (.dup, 1) := dk_89 (dk_at dksX0_init_12 9 rfl rfl)
theorem dX0_init_286 : decode cX0_init 286 = .ok (.invokespecial 404, 3) := dk_183 1 148 (dk_at dksX0_init_12 10 rfl rfl)
theorem dX0_init_289 : decode cX0_init 289 = .ok (.aastore, 1) := dk_83 (dk_at dksX0_init_12 13 rfl rfl)
theorem dX0_init_290 : decode cX0_init 290 = .ok (.dup, 1) := dk_89 (dk_at dksX0_init_12 14 rfl rfl)
theorem dX0_init_291 : decode cX0_init 291 = .ok (.iconst 2, 1) := dk_5 (dk_at dksX0_init_12 15 rfl rfl)
theorem dX0_init_292 : decode cX0_init 292 = .ok (.new 402, 3) := dk_187 1 146 (dk_at dksX0_init_12 16 rfl rfl)
theorem dX0_init_295 : decode cX0_init 295 = .ok (.dup, 1) := dk_89 (dk_at dksX0_init_12 19 rfl rfl)
theorem dX0_init_296 : decode cX0_init 296 = .ok (.invokespecial 404, 3) := dk_183 1 148 (dk_at dksX0_init_12 20 rfl rfl)
theorem dX0_init_299 : decode cX0_init 299 = .ok (.aastore, 1) := dk_83 (dk_at dksX0_init_12 23 rfl rfl)
theorem dX0_init_300 : decode cX0_init 300 = .ok (.dup, 1) := dk_89 (dk_at dksX0_init_13 0 rfl rfl)
theorem dX0_init_301 : decode cX0_init 301 = .ok (.iconst 3, 1) := dk_6 (dk_at dksX0_init_13 1 rfl rfl)
theorem dX0_init_302 : decode cX0_init 302 = .ok (.new 402, 3) := dk_187 1 146 (dk_at dksX0_init_13 2 rfl rfl)
theorem dX0_init_305 : decode cX0_init 305 = .ok (.dup, 1) := dk_89 (dk_at dksX0_init_13 5 rfl rfl)
theorem dX0_init_306 : decode cX0_init 306 = .ok (.invokespecial 404, 3) := dk_183 1 148 (dk_at dksX0_init_13 6 rfl rfl)
theorem dX0_init_309 : decode cX0_init 309 = .ok (.aastore, 1) := dk_83 (dk_at dksX0_init_13 9 rfl rfl)
theorem dX0_init_310 : decode cX0_init 310 = .ok (.putfield 405, 3) := dk_181 1 149 (dk_at dksX0_init_13 10 rfl rfl)
theorem dX0_init_313 : decode cX0_init 313 = .ok (.return_, 1) := dk_177 (dk_at dksX0_init_13 13 rfl rfl)
abbrev cX0_sheet : ByteArray := prog_1_method_72_code
def yX0_sheet : MethodName := ⟨RX0, "sheet", "(III)I"⟩
def dkwX0_sheet_2 : List UInt8 := [180, 1, 149, 27, 50, 29, 181, 1, 161, 4, 172, 58, 4, 16, 242, 172]
abbrev dktX0_sheet_2 : List UInt8 := dkwX0_sheet_2 ++ []
def dkwX0_sheet_1 : List UInt8 := [29, 16, 60, 164, 0, 5, 2, 172, 42, 180, 1, 149, 27, 50, 28, 29, 184, 1, 153, 181, 1, 157, 42]
abbrev dktX0_sheet_1 : List UInt8 := dkwX0_sheet_1 ++ dktX0_sheet_2
def dkwX0_sheet_0 : List UInt8 := [27, 133, 9, 20, 0, 42, 184, 0, 5, 153, 0, 21, 28, 133, 9, 20, 0, 99, 184, 0, 5, 153, 0, 9]
abbrev dktX0_sheet_0 : List UInt8 := dkwX0_sheet_0 ++ dktX0_sheet_1
theorem dksX0_sheet_0 : cX0_sheet.data.toList.drop 0 = dktX0_sheet_0 := by decide +kernel
theorem dksX0_sheet_1 : cX0_sheet.data.toList.drop 24 = dktX0_sheet_1 := dk_seg dksX0_sheet_0 24 rfl rfl
theorem dksX0_sheet_2 : cX0_sheet.data.toList.drop 47 = dktX0_sheet_2 := dk_seg dksX0_sheet_1 23 rfl rfl
theorem dX0_sheet_0 : decode cX0_sheet 0 = .ok (.iload_n 1, 1) := dk_27 (dk_at dksX0_sheet_0 0 rfl rfl)
theorem dX0_sheet_1 : decode cX0_sheet 1 = .ok (.i2l, 1) := dk_133 (dk_at dksX0_sheet_0 1 rfl rfl)
theorem dX0_sheet_2 : decode cX0_sheet 2 = .ok (.lconst 0, 1) := dk_9 (dk_at dksX0_sheet_0 2 rfl rfl)
theorem dX0_sheet_3 : decode cX0_sheet 3 = .ok (.ldc2_w 42, 3) := dk_20 0 42 (dk_at dksX0_sheet_0 3 rfl rfl)
theorem dX0_sheet_6 : decode cX0_sheet 6 = .ok (.invokestatic 5, 3) := dk_184 0 5 (dk_at dksX0_sheet_0 6 rfl rfl)
theorem dX0_sheet_9 : decode cX0_sheet 9 = .ok (.ifCond .eq 21, 3) := dk_153 0 21 (dk_at dksX0_sheet_0 9 rfl rfl)
theorem dX0_sheet_12 : decode cX0_sheet 12 = .ok (.iload_n 2, 1) := dk_28 (dk_at dksX0_sheet_0 12 rfl rfl)
theorem dX0_sheet_13 : decode cX0_sheet 13 = .ok (.i2l, 1) := dk_133 (dk_at dksX0_sheet_0 13 rfl rfl)
theorem dX0_sheet_14 : decode cX0_sheet 14 = .ok (.lconst 0, 1) := dk_9 (dk_at dksX0_sheet_0 14 rfl rfl)
theorem dX0_sheet_15 : decode cX0_sheet 15 = .ok (.ldc2_w 99, 3) := dk_20 0 99 (dk_at dksX0_sheet_0 15 rfl rfl)
theorem dX0_sheet_18 : decode cX0_sheet 18 = .ok (.invokestatic 5, 3) := dk_184 0 5 (dk_at dksX0_sheet_0 18 rfl rfl)
theorem dX0_sheet_21 : decode cX0_sheet 21 = .ok (.ifCond .eq 9, 3) := dk_153 0 9 (dk_at dksX0_sheet_0 21 rfl rfl)
theorem dX0_sheet_24 : decode cX0_sheet 24 = .ok (.iload_n 3, 1) := dk_29 (dk_at dksX0_sheet_1 0 rfl rfl)
theorem dX0_sheet_25 : decode cX0_sheet 25 = .ok (.bipush 60, 2) := dk_16 60 (dk_at dksX0_sheet_1 1 rfl rfl)
theorem dX0_sheet_27 : decode cX0_sheet 27 = .ok (.if_icmp .le 5, 3) := dk_164 0 5 (dk_at dksX0_sheet_1 3 rfl rfl)
theorem dX0_sheet_30 : decode cX0_sheet 30 = .ok (.iconst (-1), 1) := dk_2 (dk_at dksX0_sheet_1 6 rfl rfl)
theorem dX0_sheet_31 : decode cX0_sheet 31 = .ok (.ireturn, 1) := dk_172 (dk_at dksX0_sheet_1 7 rfl rfl)
theorem dX0_sheet_32 : decode cX0_sheet 32 = .ok (.aload_n 0, 1) := dk_42 (dk_at dksX0_sheet_1 8 rfl rfl)
theorem dX0_sheet_33 : decode cX0_sheet 33 = .ok (.getfield 405, 3) := dk_180 1 149 (dk_at dksX0_sheet_1 9 rfl rfl)
theorem dX0_sheet_36 : decode cX0_sheet 36 = .ok (.iload_n 1, 1) := dk_27 (dk_at dksX0_sheet_1 12 rfl rfl)
theorem dX0_sheet_37 : decode cX0_sheet 37 = .ok (.aaload, 1) := dk_50 (dk_at dksX0_sheet_1 13 rfl rfl)
theorem dX0_sheet_38 : decode cX0_sheet 38 = .ok (.iload_n 2, 1) := dk_28 (dk_at dksX0_sheet_1 14 rfl rfl)
theorem dX0_sheet_39 : decode cX0_sheet 39 = .ok (.iload_n 3, 1) := dk_29 (dk_at dksX0_sheet_1 15 rfl rfl)
theorem dX0_sheet_40 : decode cX0_sheet 40 = .ok (.invokestatic 409, 3) := dk_184 1 153 (dk_at dksX0_sheet_1 16 rfl rfl)
theorem dX0_sheet_43 : decode cX0_sheet 43 = .ok (.putfield 413, 3) := dk_181 1 157 (dk_at dksX0_sheet_1 19 rfl rfl)
theorem dX0_sheet_46 : decode cX0_sheet 46 = .ok (.aload_n 0, 1) := dk_42 (dk_at dksX0_sheet_1 22 rfl rfl)
theorem dX0_sheet_47 : decode cX0_sheet 47 = .ok (.getfield 405, 3) := dk_180 1 149 (dk_at dksX0_sheet_2 0 rfl rfl)
theorem dX0_sheet_50 : decode cX0_sheet 50 = .ok (.iload_n 1, 1) := dk_27 (dk_at dksX0_sheet_2 3 rfl rfl)
theorem dX0_sheet_51 : decode cX0_sheet 51 = .ok (.aaload, 1) := dk_50 (dk_at dksX0_sheet_2 4 rfl rfl)
theorem dX0_sheet_52 : decode cX0_sheet 52 = .ok (.iload_n 3, 1) := dk_29 (dk_at dksX0_sheet_2 5 rfl rfl)
theorem dX0_sheet_53 : decode cX0_sheet 53 = .ok (.putfield 417, 3) := dk_181 1 161 (dk_at dksX0_sheet_2 6 rfl rfl)
theorem dX0_sheet_56 : decode cX0_sheet 56 = .ok (.iconst 1, 1) := dk_4 (dk_at dksX0_sheet_2 9 rfl rfl)
theorem dX0_sheet_57 : decode cX0_sheet 57 = .ok (.ireturn, 1) := dk_172 (dk_at dksX0_sheet_2 10 rfl rfl)
theorem dX0_sheet_58 : decode cX0_sheet 58 = .ok (.astore 4, 2) := dk_58 4 (dk_at dksX0_sheet_2 11 rfl rfl)
theorem dX0_sheet_60 : decode cX0_sheet 60 = .ok (.bipush (-14), 2) := dk_16 242 (dk_at dksX0_sheet_2 13 rfl rfl)
theorem dX0_sheet_62 : decode cX0_sheet 62 = .ok (.ireturn, 1) := dk_172 (dk_at dksX0_sheet_2 15 rfl rfl)
abbrev cX0_newRow : ByteArray := prog_1_method_71_code
def yX0_newRow : MethodName := ⟨RX0, "newRow", "(II)Ljava/lang/Object;"⟩
def dkwX0_newRow_2 : List UInt8 := [27, 188, 8, 176, 27, 188, 9, 176, 27, 188, 10, 176]
abbrev dktX0_newRow_2 : List UInt8 := dkwX0_newRow_2 ++ []
def dkwX0_newRow_1 : List UInt8 := [171, 0, 0, 0, 0, 0, 35, 0, 0, 0, 2, 0, 0, 0, 0, 0, 0, 0, 27, 0, 0, 0, 1, 0, 0, 0, 31]
abbrev dktX0_newRow_1 : List UInt8 := dkwX0_newRow_1 ++ dktX0_newRow_2
def dkwX0_newRow_0 : List UInt8 := [26]
abbrev dktX0_newRow_0 : List UInt8 := dkwX0_newRow_0 ++ dktX0_newRow_1
theorem dksX0_newRow_0 : cX0_newRow.data.toList.drop 0 = dktX0_newRow_0 := by decide +kernel
theorem dksX0_newRow_1 : cX0_newRow.data.toList.drop 1 = dktX0_newRow_1 := dk_seg dksX0_newRow_0 1 rfl rfl
theorem dksX0_newRow_2 : cX0_newRow.data.toList.drop 28 = dktX0_newRow_2 := dk_seg dksX0_newRow_1 27 rfl rfl
theorem dX0_newRow_0 : decode cX0_newRow 0 = .ok (.iload_n 0, 1) := dk_26 (dk_at dksX0_newRow_0 0 rfl rfl)
theorem dX0_newRow_1 : decode cX0_newRow 1 = .ok (.lookupswitch 35 #[(0, 27), (1, 31)], 27) := by decide +kernel
theorem dX0_newRow_28 : decode cX0_newRow 28 = .ok (.iload_n 1, 1) := dk_27 (dk_at dksX0_newRow_2 0 rfl rfl)
theorem dX0_newRow_29 : decode cX0_newRow 29 = .ok (.newarray .byte, 2) := dk_188_8 (dk_at dksX0_newRow_2 1 rfl rfl)
theorem dX0_newRow_31 : decode cX0_newRow 31 = .ok (.areturn, 1) := dk_176 (dk_at dksX0_newRow_2 3 rfl rfl)
theorem dX0_newRow_32 : decode cX0_newRow 32 = .ok (.iload_n 1, 1) := dk_27 (dk_at dksX0_newRow_2 4 rfl rfl)
theorem dX0_newRow_33 : decode cX0_newRow 33 = .ok (.newarray .short, 2) := dk_188_9 (dk_at dksX0_newRow_2 5 rfl rfl)
theorem dX0_newRow_35 : decode cX0_newRow 35 = .ok (.areturn, 1) := dk_176 (dk_at dksX0_newRow_2 7 rfl rfl)
theorem dX0_newRow_36 : decode cX0_newRow 36 = .ok (.iload_n 1, 1) := dk_27 (dk_at dksX0_newRow_2 8 rfl rfl)
theorem dX0_newRow_37 : decode cX0_newRow 37 = .ok (.newarray .int, 2) := dk_188_10 (dk_at dksX0_newRow_2 9 rfl rfl)
theorem dX0_newRow_39 : decode cX0_newRow 39 = .ok (.areturn, 1) := dk_176 (dk_at dksX0_newRow_2 11 rfl rfl)
abbrev cX0_lay : ByteArray := prog_1_method_73_code
def yX0_lay : MethodName := ⟨RX0, "lay", "(III)I"⟩
def dkwX0_lay_3 : List UInt8 := [29, 79, 4, 172, 58, 5, 16, 245, 172, 58, 5, 16, 244, 172]
abbrev dktX0_lay_3 : List UInt8 := dkwX0_lay_3 ++ []
def dkwX0_lay_2 : List UInt8 := [193, 1, 166, 153, 0, 15, 25, 4, 192, 1, 166, 28, 29, 147, 86, 167, 0, 11, 25, 4, 192, 1, 145, 28]
abbrev dktX0_lay_2 : List UInt8 := dkwX0_lay_2 ++ dktX0_lay_3
def dkwX0_lay_1 : List UInt8 := [58, 4, 25, 4, 193, 1, 165, 153, 0, 15, 25, 4, 192, 1, 165, 28, 29, 145, 84, 167, 0, 31, 25, 4]
abbrev dktX0_lay_1 : List UInt8 := dkwX0_lay_1 ++ dktX0_lay_2
def dkwX0_lay_0 : List UInt8 := [27, 133, 9, 20, 0, 42, 184, 0, 5, 154, 0, 5, 2, 172, 42, 180, 1, 149, 27, 50, 180, 1, 157]
abbrev dktX0_lay_0 : List UInt8 := dkwX0_lay_0 ++ dktX0_lay_1
theorem dksX0_lay_0 : cX0_lay.data.toList.drop 0 = dktX0_lay_0 := by decide +kernel
theorem dksX0_lay_1 : cX0_lay.data.toList.drop 23 = dktX0_lay_1 := dk_seg dksX0_lay_0 23 rfl rfl
theorem dksX0_lay_2 : cX0_lay.data.toList.drop 47 = dktX0_lay_2 := dk_seg dksX0_lay_1 24 rfl rfl
theorem dksX0_lay_3 : cX0_lay.data.toList.drop 71 = dktX0_lay_3 := dk_seg dksX0_lay_2 24 rfl rfl
theorem dX0_lay_0 : decode cX0_lay 0 = .ok (.iload_n 1, 1) := dk_27 (dk_at dksX0_lay_0 0 rfl rfl)
theorem dX0_lay_1 : decode cX0_lay 1 = .ok (.i2l, 1) := dk_133 (dk_at dksX0_lay_0 1 rfl rfl)
theorem dX0_lay_2 : decode cX0_lay 2 = .ok (.lconst 0, 1) := dk_9 (dk_at dksX0_lay_0 2 rfl rfl)
theorem dX0_lay_3 : decode cX0_lay 3 = .ok (.ldc2_w 42, 3) := dk_20 0 42 (dk_at dksX0_lay_0 3 rfl rfl)
theorem dX0_lay_6 : decode cX0_lay 6 = .ok (.invokestatic 5, 3) := dk_184 0 5 (dk_at dksX0_lay_0 6 rfl rfl)
theorem dX0_lay_9 : decode cX0_lay 9 = .ok (.ifCond .ne 5, 3) := dk_154 0 5 (dk_at dksX0_lay_0 9 rfl rfl)
theorem dX0_lay_12 : decode cX0_lay 12 = .ok (.iconst (-1), 1) := dk_2 (dk_at dksX0_lay_0 12 rfl rfl)
theorem dX0_lay_13 : decode cX0_lay 13 = .ok (.ireturn, 1) := dk_172 (dk_at dksX0_lay_0 13 rfl rfl)
theorem dX0_lay_14 : decode cX0_lay 14 = .ok (.aload_n 0, 1) := dk_42 (dk_at dksX0_lay_0 14 rfl rfl)
theorem dX0_lay_15 : decode cX0_lay 15 = .ok (.getfield 405, 3) := dk_180 1 149 (dk_at dksX0_lay_0 15 rfl rfl)
theorem dX0_lay_18 : decode cX0_lay 18 = .ok (.iload_n 1, 1) := dk_27 (dk_at dksX0_lay_0 18 rfl rfl)
theorem dX0_lay_19 : decode cX0_lay 19 = .ok (.aaload, 1) := dk_50 (dk_at dksX0_lay_0 19 rfl rfl)
theorem dX0_lay_20 : decode cX0_lay 20 = .ok (.getfield 413, 3) := dk_180 1 157 (dk_at dksX0_lay_0 20 rfl rfl)
theorem dX0_lay_23 : decode cX0_lay 23 = .ok (.astore 4, 2) := dk_58 4 (dk_at dksX0_lay_1 0 rfl rfl)
theorem dX0_lay_25 : decode cX0_lay 25 = .ok (.aload 4, 2) := dk_25 4 (dk_at dksX0_lay_1 2 rfl rfl)
theorem dX0_lay_27 : decode cX0_lay 27 = .ok (.instanceof 421, 3) := dk_193 1 165 (dk_at dksX0_lay_1 4 rfl rfl)
theorem dX0_lay_30 : decode cX0_lay 30 = .ok (.ifCond .eq 15, 3) := dk_153 0 15 (dk_at dksX0_lay_1 7 rfl rfl)
theorem dX0_lay_33 : decode cX0_lay 33 = .ok (.aload 4, 2) := dk_25 4 (dk_at dksX0_lay_1 10 rfl rfl)
theorem dX0_lay_35 : decode cX0_lay 35 = .ok (.checkcast 421, 3) := dk_192 1 165 (dk_at dksX0_lay_1 12 rfl rfl)
theorem dX0_lay_38 : decode cX0_lay 38 = .ok (.iload_n 2, 1) := dk_28 (dk_at dksX0_lay_1 15 rfl rfl)
theorem dX0_lay_39 : decode cX0_lay 39 = .ok (.iload_n 3, 1) := dk_29 (dk_at dksX0_lay_1 16 rfl rfl)
theorem dX0_lay_40 : decode cX0_lay 40 = .ok (.i2b, 1) := dk_145 (dk_at dksX0_lay_1 17 rfl rfl)
theorem dX0_lay_41 : decode cX0_lay 41 = .ok (.bastore, 1) := dk_84 (dk_at dksX0_lay_1 18 rfl rfl)
theorem dX0_lay_42 : decode cX0_lay 42 = .ok (.goto 31, 3) := dk_167 0 31 (dk_at dksX0_lay_1 19 rfl rfl)
theorem dX0_lay_45 : decode cX0_lay 45 = .ok (.aload 4, 2) := dk_25 4 (dk_at dksX0_lay_1 22 rfl rfl)
theorem dX0_lay_47 : decode cX0_lay 47 = .ok (.instanceof 422, 3) := dk_193 1 166 (dk_at dksX0_lay_2 0 rfl rfl)
theorem dX0_lay_50 : decode cX0_lay 50 = .ok (.ifCond .eq 15, 3) := dk_153 0 15 (dk_at dksX0_lay_2 3 rfl rfl)
theorem dX0_lay_53 : decode cX0_lay 53 = .ok (.aload 4, 2) := dk_25 4 (dk_at dksX0_lay_2 6 rfl rfl)
theorem dX0_lay_55 : decode cX0_lay 55 = .ok (.checkcast 422, 3) := dk_192 1 166 (dk_at dksX0_lay_2 8 rfl rfl)
theorem dX0_lay_58 : decode cX0_lay 58 = .ok (.iload_n 2, 1) := dk_28 (dk_at dksX0_lay_2 11 rfl rfl)
theorem dX0_lay_59 : decode cX0_lay 59 = .ok (.iload_n 3, 1) := dk_29 (dk_at dksX0_lay_2 12 rfl rfl)
theorem dX0_lay_60 : decode cX0_lay 60 = .ok (.i2s, 1) := dk_147 (dk_at dksX0_lay_2 13 rfl rfl)
theorem dX0_lay_61 : decode cX0_lay 61 = .ok (.sastore, 1) := dk_86 (dk_at dksX0_lay_2 14 rfl rfl)
theorem dX0_lay_62 : decode cX0_lay 62 = .ok (.goto 11, 3) := dk_167 0 11 (dk_at dksX0_lay_2 15 rfl rfl)
theorem dX0_lay_65 : decode cX0_lay 65 = .ok (.aload 4, 2) := dk_25 4 (dk_at dksX0_lay_2 18 rfl rfl)
theorem dX0_lay_67 : decode cX0_lay 67 = .ok (.checkcast 401, 3) := dk_192 1 145 (dk_at dksX0_lay_2 20 rfl rfl)
theorem dX0_lay_70 : decode cX0_lay 70 = .ok (.iload_n 2, 1) := dk_28 (dk_at dksX0_lay_2 23 rfl rfl)
theorem dX0_lay_71 : decode cX0_lay 71 = .ok (.iload_n 3, 1) := dk_29 (dk_at dksX0_lay_3 0 rfl rfl)
theorem dX0_lay_72 : decode cX0_lay 72 = .ok (.iastore, 1) := dk_79 (dk_at dksX0_lay_3 1 rfl rfl)
theorem dX0_lay_73 : decode cX0_lay 73 = .ok (.iconst 1, 1) := dk_4 (dk_at dksX0_lay_3 2 rfl rfl)
theorem dX0_lay_74 : decode cX0_lay 74 = .ok (.ireturn, 1) := dk_172 (dk_at dksX0_lay_3 3 rfl rfl)
theorem dX0_lay_75 : decode cX0_lay 75 = .ok (.astore 5, 2) := dk_58 5 (dk_at dksX0_lay_3 4 rfl rfl)
theorem dX0_lay_77 : decode cX0_lay 77 = .ok (.bipush (-11), 2) := dk_16 245 (dk_at dksX0_lay_3 6 rfl rfl)
theorem dX0_lay_79 : decode cX0_lay 79 = .ok (.ireturn, 1) := dk_172 (dk_at dksX0_lay_3 8 rfl rfl)
theorem dX0_lay_80 : decode cX0_lay 80 = .ok (.astore 5, 2) := dk_58 5 (dk_at dksX0_lay_3 9 rfl rfl)
theorem dX0_lay_82 : decode cX0_lay 82 = .ok (.bipush (-12), 2) := dk_16 244 (dk_at dksX0_lay_3 11 rfl rfl)
theorem dX0_lay_84 : decode cX0_lay 84 = .ok (.ireturn, 1) := dk_172 (dk_at dksX0_lay_3 13 rfl rfl)
abbrev cX0_text : ByteArray := prog_1_method_75_code
def yX0_text : MethodName := ⟨RX0, "text", "(IIII)I"⟩
def dkwX0_text_7 : List UInt8 := [25, 5, 183, 1, 180, 83, 42, 89, 180, 0, 50, 4, 96, 181, 0, 50, 42, 180, 0, 50, 4, 100, 172]
abbrev dktX0_text_7 : List UInt8 := dkwX0_text_7 ++ []
def dkwX0_text_6 : List UInt8 := [180, 0, 50, 16, 8, 160, 0, 6, 16, 253, 172, 42, 180, 0, 61, 42, 180, 0, 50, 187, 0, 54, 89]
abbrev dktX0_text_6 : List UInt8 := dkwX0_text_6 ++ dktX0_text_7
def dkwX0_text_5 : List UInt8 := [167, 255, 187, 167, 0, 18, 58, 6, 16, 245, 172, 58, 6, 16, 243, 172, 58, 6, 16, 244, 172, 42]
abbrev dktX0_text_5 : List UInt8 := dkwX0_text_5 ++ dktX0_text_6
def dkwX0_text_4 : List UInt8 := [159, 0, 19, 25, 5, 21, 6, 46, 16, 254, 159, 0, 9, 16, 236, 21, 6, 100, 172, 132, 6, 1]
abbrev dktX0_text_4 : List UInt8 := dkwX0_text_4 ++ dktX0_text_5
def dkwX0_text_3 : List UInt8 := [96, 184, 1, 174, 79, 42, 25, 5, 21, 6, 46, 182, 0, 34, 154, 0, 28, 25, 5, 21, 6, 46, 2]
abbrev dktX0_text_3 : List UInt8 := dkwX0_text_3 ++ dktX0_text_4
def dkwX0_text_2 : List UInt8 := [21, 6, 21, 4, 162, 0, 68, 25, 5, 21, 6, 42, 180, 1, 149, 27, 50, 180, 1, 157, 28, 29, 21, 6]
abbrev dktX0_text_2 : List UInt8 := dkwX0_text_2 ++ dktX0_text_3
def dkwX0_text_1 : List UInt8 := [21, 4, 133, 10, 20, 1, 172, 184, 0, 5, 154, 0, 5, 2, 172, 21, 4, 188, 10, 58, 5, 3, 54, 6]
abbrev dktX0_text_1 : List UInt8 := dkwX0_text_1 ++ dktX0_text_2
def dkwX0_text_0 : List UInt8 := [27, 133, 9, 20, 0, 42, 184, 0, 5, 153, 0, 28, 28, 133, 9, 20, 0, 99, 184, 0, 5, 153, 0, 16]
abbrev dktX0_text_0 : List UInt8 := dkwX0_text_0 ++ dktX0_text_1
theorem dksX0_text_0 : cX0_text.data.toList.drop 0 = dktX0_text_0 := by decide +kernel
theorem dksX0_text_1 : cX0_text.data.toList.drop 24 = dktX0_text_1 := dk_seg dksX0_text_0 24 rfl rfl
theorem dksX0_text_2 : cX0_text.data.toList.drop 48 = dktX0_text_2 := dk_seg dksX0_text_1 24 rfl rfl
theorem dksX0_text_3 : cX0_text.data.toList.drop 72 = dktX0_text_3 := dk_seg dksX0_text_2 24 rfl rfl
theorem dksX0_text_4 : cX0_text.data.toList.drop 95 = dktX0_text_4 := dk_seg dksX0_text_3 23 rfl rfl
theorem dksX0_text_5 : cX0_text.data.toList.drop 117 = dktX0_text_5 := dk_seg dksX0_text_4 22 rfl rfl
theorem dksX0_text_6 : cX0_text.data.toList.drop 139 = dktX0_text_6 := dk_seg dksX0_text_5 22 rfl rfl
theorem dksX0_text_7 : cX0_text.data.toList.drop 162 = dktX0_text_7 := dk_seg dksX0_text_6 23 rfl rfl
theorem dX0_text_0 : decode cX0_text 0 = .ok (.iload_n 1, 1) := dk_27 (dk_at dksX0_text_0 0 rfl rfl)
theorem dX0_text_1 : decode cX0_text 1 = .ok (.i2l, 1) := dk_133 (dk_at dksX0_text_0 1 rfl rfl)
theorem dX0_text_2 : decode cX0_text 2 = .ok (.lconst 0, 1) := dk_9 (dk_at dksX0_text_0 2 rfl rfl)
theorem dX0_text_3 : decode cX0_text 3 = .ok (.ldc2_w 42, 3) := dk_20 0 42 (dk_at dksX0_text_0 3 rfl rfl)
theorem dX0_text_6 : decode cX0_text 6 = .ok (.invokestatic 5, 3) := dk_184 0 5 (dk_at dksX0_text_0 6 rfl rfl)
theorem dX0_text_9 : decode cX0_text 9 = .ok (.ifCond .eq 28, 3) := dk_153 0 28 (dk_at dksX0_text_0 9 rfl rfl)
theorem dX0_text_12 : decode cX0_text 12 = .ok (.iload_n 2, 1) := dk_28 (dk_at dksX0_text_0 12 rfl rfl)
theorem dX0_text_13 : decode cX0_text 13 = .ok (.i2l, 1) := dk_133 (dk_at dksX0_text_0 13 rfl rfl)
theorem dX0_text_14 : decode cX0_text 14 = .ok (.lconst 0, 1) := dk_9 (dk_at dksX0_text_0 14 rfl rfl)
theorem dX0_text_15 : decode cX0_text 15 = .ok (.ldc2_w 99, 3) := dk_20 0 99 (dk_at dksX0_text_0 15 rfl rfl)
theorem dX0_text_18 : decode cX0_text 18 = .ok (.invokestatic 5, 3) := dk_184 0 5 (dk_at dksX0_text_0 18 rfl rfl)
theorem dX0_text_21 : decode cX0_text 21 = .ok (.ifCond .eq 16, 3) := dk_153 0 16 (dk_at dksX0_text_0 21 rfl rfl)
theorem dX0_text_24 : decode cX0_text 24 = .ok (.iload 4, 2) := dk_21 4 (dk_at dksX0_text_1 0 rfl rfl)
theorem dX0_text_26 : decode cX0_text 26 = .ok (.i2l, 1) := dk_133 (dk_at dksX0_text_1 2 rfl rfl)
theorem dX0_text_27 : decode cX0_text 27 = .ok (.lconst 1, 1) := dk_10 (dk_at dksX0_text_1 3 rfl rfl)
theorem dX0_text_28 : decode cX0_text 28 = .ok (.ldc2_w 428, 3) := dk_20 1 172 (dk_at dksX0_text_1 4 rfl rfl)
theorem dX0_text_31 : decode cX0_text 31 = .ok (.invokestatic 5, 3) := dk_184 0 5 (dk_at dksX0_text_1 7 rfl rfl)
theorem dX0_text_34 : decode cX0_text 34 = .ok (.ifCond .ne 5, 3) := dk_154 0 5 (dk_at dksX0_text_1 10 rfl rfl)
theorem dX0_text_37 : decode cX0_text 37 = .ok (.iconst (-1), 1) := dk_2 (dk_at dksX0_text_1 13 rfl rfl)
theorem dX0_text_38 : decode cX0_text 38 = .ok (.ireturn, 1) := dk_172 (dk_at dksX0_text_1 14 rfl rfl)
theorem dX0_text_39 : decode cX0_text 39 = .ok (.iload 4, 2) := dk_21 4 (dk_at dksX0_text_1 15 rfl rfl)
theorem dX0_text_41 : decode cX0_text 41 = .ok (.newarray .int, 2) := dk_188_10 (dk_at dksX0_text_1 17 rfl rfl)
theorem dX0_text_43 : decode cX0_text 43 = .ok (.astore 5, 2) := dk_58 5 (dk_at dksX0_text_1 19 rfl rfl)
theorem dX0_text_45 : decode cX0_text 45 = .ok (.iconst 0, 1) := dk_3 (dk_at dksX0_text_1 21 rfl rfl)
theorem dX0_text_46 : decode cX0_text 46 = .ok (.istore 6, 2) := dk_54 6 (dk_at dksX0_text_1 22 rfl rfl)
theorem dX0_text_48 : decode cX0_text 48 = .ok (.iload 6, 2) := dk_21 6 (dk_at dksX0_text_2 0 rfl rfl)
theorem dX0_text_50 : decode cX0_text 50 = .ok (.iload 4, 2) := dk_21 4 (dk_at dksX0_text_2 2 rfl rfl)
theorem dX0_text_52 : decode cX0_text 52 = .ok (.if_icmp .ge 68, 3) := dk_162 0 68 (dk_at dksX0_text_2 4 rfl rfl)
theorem dX0_text_55 : decode cX0_text 55 = .ok (.aload 5, 2) := dk_25 5 (dk_at dksX0_text_2 7 rfl rfl)
theorem dX0_text_57 : decode cX0_text 57 = .ok (.iload 6, 2) := dk_21 6 (dk_at dksX0_text_2 9 rfl rfl)
theorem dX0_text_59 : decode cX0_text 59 = .ok (.aload_n 0, 1) := dk_42 (dk_at dksX0_text_2 11 rfl rfl)
theorem dX0_text_60 : decode cX0_text 60 = .ok (.getfield 405, 3) := dk_180 1 149 (dk_at dksX0_text_2 12 rfl rfl)
theorem dX0_text_63 : decode cX0_text 63 = .ok (.iload_n 1, 1) := dk_27 (dk_at dksX0_text_2 15 rfl rfl)
theorem dX0_text_64 : decode cX0_text 64 = .ok (.aaload, 1) := dk_50 (dk_at dksX0_text_2 16 rfl rfl)
theorem dX0_text_65 : decode cX0_text 65 = .ok (.getfield 413, 3) := dk_180 1 157 (dk_at dksX0_text_2 17 rfl rfl)
theorem dX0_text_68 : decode cX0_text 68 = .ok (.iload_n 2, 1) := dk_28 (dk_at dksX0_text_2 20 rfl rfl)
theorem dX0_text_69 : decode cX0_text 69 = .ok (.iload_n 3, 1) := dk_29 (dk_at dksX0_text_2 21 rfl rfl)
theorem dX0_text_70 : decode cX0_text 70 = .ok (.iload 6, 2) := dk_21 6 (dk_at dksX0_text_2 22 rfl rfl)
theorem dX0_text_72 : decode cX0_text 72 = .ok (.iadd, 1) := dk_96 (dk_at dksX0_text_3 0 rfl rfl)
theorem dX0_text_73 : decode cX0_text 73 = .ok (.invokestatic 430, 3) := dk_184 1 174 (dk_at dksX0_text_3 1 rfl rfl)
theorem dX0_text_76 : decode cX0_text 76 = .ok (.iastore, 1) := dk_79 (dk_at dksX0_text_3 4 rfl rfl)
theorem dX0_text_77 : decode cX0_text 77 = .ok (.aload_n 0, 1) := dk_42 (dk_at dksX0_text_3 5 rfl rfl)
theorem dX0_text_78 : decode cX0_text 78 = .ok (.aload 5, 2) := dk_25 5 (dk_at dksX0_text_3 6 rfl rfl)
theorem dX0_text_80 : decode cX0_text 80 = .ok (.iload 6, 2) := dk_21 6 (dk_at dksX0_text_3 8 rfl rfl)
theorem dX0_text_82 : decode cX0_text 82 = .ok (.iaload, 1) := dk_46 (dk_at dksX0_text_3 10 rfl rfl)
theorem dX0_text_83 : decode cX0_text 83 = .ok (.invokevirtual 34, 3) := dk_182 0 34 (dk_at dksX0_text_3 11 rfl rfl)
theorem dX0_text_86 : decode cX0_text 86 = .ok (.ifCond .ne 28, 3) := dk_154 0 28 (dk_at dksX0_text_3 14 rfl rfl)
theorem dX0_text_89 : decode cX0_text 89 = .ok (.aload 5, 2) := dk_25 5 (dk_at dksX0_text_3 17 rfl rfl)
theorem dX0_text_91 : decode cX0_text 91 = .ok (.iload 6, 2) := dk_21 6 (dk_at dksX0_text_3 19 rfl rfl)
theorem dX0_text_93 : decode cX0_text 93 = .ok (.iaload, 1) := dk_46 (dk_at dksX0_text_3 21 rfl rfl)
theorem dX0_text_94 : decode cX0_text 94 = .ok (.iconst (-1), 1) := dk_2 (dk_at dksX0_text_3 22 rfl rfl)
theorem dX0_text_95 : decode cX0_text 95 = .ok (.if_icmp .eq 19, 3) := dk_159 0 19 (dk_at dksX0_text_4 0 rfl rfl)
theorem dX0_text_98 : decode cX0_text 98 = .ok (.aload 5, 2) := dk_25 5 (dk_at dksX0_text_4 3 rfl rfl)
theorem dX0_text_100 : decode cX0_text 100 = .ok (.iload 6, 2) := dk_21 6 (dk_at dksX0_text_4 5 rfl rfl)
theorem dX0_text_102 : decode cX0_text 102 = .ok (.iaload, 1) := dk_46 (dk_at dksX0_text_4 7 rfl rfl)
theorem dX0_text_103 : decode cX0_text 103 = .ok (.bipush (-2), 2) := dk_16 254 (dk_at dksX0_text_4 8 rfl rfl)
theorem dX0_text_105 : decode cX0_text 105 = .ok (.if_icmp .eq 9, 3) := dk_159 0 9 (dk_at dksX0_text_4 10 rfl rfl)
theorem dX0_text_108 : decode cX0_text 108 = .ok (.bipush (-20), 2) := dk_16 236 (dk_at dksX0_text_4 13 rfl rfl)
theorem dX0_text_110 : decode cX0_text 110 = .ok (.iload 6, 2) := dk_21 6 (dk_at dksX0_text_4 15 rfl rfl)
theorem dX0_text_112 : decode cX0_text 112 = .ok (.isub, 1) := dk_100 (dk_at dksX0_text_4 17 rfl rfl)
theorem dX0_text_113 : decode cX0_text 113 = .ok (.ireturn, 1) := dk_172 (dk_at dksX0_text_4 18 rfl rfl)
theorem dX0_text_114 : decode cX0_text 114 = .ok (.iinc 6 1, 3) := dk_132 6 1 (dk_at dksX0_text_4 19 rfl rfl)
theorem dX0_text_117 : decode cX0_text 117 = .ok (.goto (-69), 3) := dk_167 255 187 (dk_at dksX0_text_5 0 rfl rfl)
theorem dX0_text_120 : decode cX0_text 120 = .ok (.goto 18, 3) := dk_167 0 18 (dk_at dksX0_text_5 3 rfl rfl)
theorem dX0_text_123 : decode cX0_text 123 = .ok (.astore 6, 2) := dk_58 6 (dk_at dksX0_text_5 6 rfl rfl)
theorem dX0_text_125 : decode cX0_text 125 = .ok (.bipush (-11), 2) := dk_16 245 (dk_at dksX0_text_5 8 rfl rfl)
theorem dX0_text_127 : decode cX0_text 127 = .ok (.ireturn, 1) := dk_172 (dk_at dksX0_text_5 10 rfl rfl)
theorem dX0_text_128 : decode cX0_text 128 = .ok (.astore 6, 2) := dk_58 6 (dk_at dksX0_text_5 11 rfl rfl)
theorem dX0_text_130 : decode cX0_text 130 = .ok (.bipush (-13), 2) := dk_16 243 (dk_at dksX0_text_5 13 rfl rfl)
theorem dX0_text_132 : decode cX0_text 132 = .ok (.ireturn, 1) := dk_172 (dk_at dksX0_text_5 15 rfl rfl)
theorem dX0_text_133 : decode cX0_text 133 = .ok (.astore 6, 2) := dk_58 6 (dk_at dksX0_text_5 16 rfl rfl)
theorem dX0_text_135 : decode cX0_text 135 = .ok (.bipush (-12), 2) := dk_16 244 (dk_at dksX0_text_5 18 rfl rfl)
theorem dX0_text_137 : decode cX0_text 137 = .ok (.ireturn, 1) := dk_172 (dk_at dksX0_text_5 20 rfl rfl)
theorem dX0_text_138 : decode cX0_text 138 = .ok (.aload_n 0, 1) := dk_42 (dk_at dksX0_text_5 21 rfl rfl)
theorem dX0_text_139 : decode cX0_text 139 = .ok (.getfield 50, 3) := dk_180 0 50 (dk_at dksX0_text_6 0 rfl rfl)
theorem dX0_text_142 : decode cX0_text 142 = .ok (.bipush 8, 2) := dk_16 8 (dk_at dksX0_text_6 3 rfl rfl)
theorem dX0_text_144 : decode cX0_text 144 = .ok (.if_icmp .ne 6, 3) := dk_160 0 6 (dk_at dksX0_text_6 5 rfl rfl)
theorem dX0_text_147 : decode cX0_text 147 = .ok (.bipush (-3), 2) := dk_16 253 (dk_at dksX0_text_6 8 rfl rfl)
theorem dX0_text_149 : decode cX0_text 149 = .ok (.ireturn, 1) := dk_172 (dk_at dksX0_text_6 10 rfl rfl)
theorem dX0_text_150 : decode cX0_text 150 = .ok (.aload_n 0, 1) := dk_42 (dk_at dksX0_text_6 11 rfl rfl)
theorem dX0_text_151 : decode cX0_text 151 = .ok (.getfield 61, 3) := dk_180 0 61 (dk_at dksX0_text_6 12 rfl rfl)
theorem dX0_text_154 : decode cX0_text 154 = .ok (.aload_n 0, 1) := dk_42 (dk_at dksX0_text_6 15 rfl rfl)
theorem dX0_text_155 : decode cX0_text 155 = .ok (.getfield 50, 3) := dk_180 0 50 (dk_at dksX0_text_6 16 rfl rfl)
theorem dX0_text_158 : decode cX0_text 158 = .ok (.new 54, 3) := dk_187 0 54 (dk_at dksX0_text_6 19 rfl rfl)
theorem dX0_text_161 : decode cX0_text 161 = .ok (.dup, 1) := dk_89 (dk_at dksX0_text_6 22 rfl rfl)
theorem dX0_text_162 : decode cX0_text 162 = .ok (.aload 5, 2) := dk_25 5 (dk_at dksX0_text_7 0 rfl rfl)
theorem dX0_text_164 : decode cX0_text 164 = .ok (.invokespecial 436, 3) := dk_183 1 180 (dk_at dksX0_text_7 2 rfl rfl)
theorem dX0_text_167 : decode cX0_text 167 = .ok (.aastore, 1) := dk_83 (dk_at dksX0_text_7 5 rfl rfl)
theorem dX0_text_168 : decode cX0_text 168 = .ok (.aload_n 0, 1) := dk_42 (dk_at dksX0_text_7 6 rfl rfl)
theorem dX0_text_169 : decode cX0_text 169 = .ok (.dup, 1) := dk_89 (dk_at dksX0_text_7 7 rfl rfl)
theorem dX0_text_170 : decode cX0_text 170 = .ok (.getfield 50, 3) := dk_180 0 50 (dk_at dksX0_text_7 8 rfl rfl)
theorem dX0_text_173 : decode cX0_text 173 = .ok (.iconst 1, 1) := dk_4 (dk_at dksX0_text_7 11 rfl rfl)
theorem dX0_text_174 : decode cX0_text 174 = .ok (.iadd, 1) := dk_96 (dk_at dksX0_text_7 12 rfl rfl)
theorem dX0_text_175 : decode cX0_text 175 = .ok (.putfield 50, 3) := dk_181 0 50 (dk_at dksX0_text_7 13 rfl rfl)
theorem dX0_text_178 : decode cX0_text 178 = .ok (.aload_n 0, 1) := dk_42 (dk_at dksX0_text_7 16 rfl rfl)
theorem dX0_text_179 : decode cX0_text 179 = .ok (.getfield 50, 3) := dk_180 0 50 (dk_at dksX0_text_7 17 rfl rfl)
theorem dX0_text_182 : decode cX0_text 182 = .ok (.iconst 1, 1) := dk_4 (dk_at dksX0_text_7 20 rfl rfl)
theorem dX0_text_183 : decode cX0_text 183 = .ok (.isub, 1) := dk_100 (dk_at dksX0_text_7 21 rfl rfl)
theorem dX0_text_184 : decode cX0_text 184 = .ok (.ireturn, 1) := dk_172 (dk_at dksX0_text_7 22 rfl rfl)
abbrev cX0_cell : ByteArray := prog_1_method_74_code
def yX0_cell : MethodName := ⟨RX0, "cell", "(Ljava/lang/Object;II)I"⟩
def dkwX0_cell_1 : List UInt8 := [167, 0, 9, 42, 192, 1, 145, 28, 46, 172]
abbrev dktX0_cell_1 : List UInt8 := dkwX0_cell_1 ++ []
def dkwX0_cell_0 : List UInt8 := [27, 154, 0, 12, 42, 192, 1, 165, 28, 51, 167, 0, 23, 27, 4, 160, 0, 12, 42, 192, 1, 166, 28, 53]
abbrev dktX0_cell_0 : List UInt8 := dkwX0_cell_0 ++ dktX0_cell_1
theorem dksX0_cell_0 : cX0_cell.data.toList.drop 0 = dktX0_cell_0 := by decide +kernel
theorem dksX0_cell_1 : cX0_cell.data.toList.drop 24 = dktX0_cell_1 := dk_seg dksX0_cell_0 24 rfl rfl
theorem dX0_cell_0 : decode cX0_cell 0 = .ok (.iload_n 1, 1) := dk_27 (dk_at dksX0_cell_0 0 rfl rfl)
theorem dX0_cell_1 : decode cX0_cell 1 = .ok (.ifCond .ne 12, 3) := dk_154 0 12 (dk_at dksX0_cell_0 1 rfl rfl)
theorem dX0_cell_4 : decode cX0_cell 4 = .ok (.aload_n 0, 1) := dk_42 (dk_at dksX0_cell_0 4 rfl rfl)
theorem dX0_cell_5 : decode cX0_cell 5 = .ok (.checkcast 421, 3) := dk_192 1 165 (dk_at dksX0_cell_0 5 rfl rfl)
theorem dX0_cell_8 : decode cX0_cell 8 = .ok (.iload_n 2, 1) := dk_28 (dk_at dksX0_cell_0 8 rfl rfl)
theorem dX0_cell_9 : decode cX0_cell 9 = .ok (.baload, 1) := dk_51 (dk_at dksX0_cell_0 9 rfl rfl)
theorem dX0_cell_10 : decode cX0_cell 10 = .ok (.goto 23, 3) := dk_167 0 23 (dk_at dksX0_cell_0 10 rfl rfl)
theorem dX0_cell_13 : decode cX0_cell 13 = .ok (.iload_n 1, 1) := dk_27 (dk_at dksX0_cell_0 13 rfl rfl)
theorem dX0_cell_14 : decode cX0_cell 14 = .ok (.iconst 1, 1) := dk_4 (dk_at dksX0_cell_0 14 rfl rfl)
theorem dX0_cell_15 : decode cX0_cell 15 = .ok (.if_icmp .ne 12, 3) := dk_160 0 12 (dk_at dksX0_cell_0 15 rfl rfl)
theorem dX0_cell_18 : decode cX0_cell 18 = .ok (.aload_n 0, 1) := dk_42 (dk_at dksX0_cell_0 18 rfl rfl)
theorem dX0_cell_19 : decode cX0_cell 19 = .ok (.checkcast 422, 3) := dk_192 1 166 (dk_at dksX0_cell_0 19 rfl rfl)
theorem dX0_cell_22 : decode cX0_cell 22 = .ok (.iload_n 2, 1) := dk_28 (dk_at dksX0_cell_0 22 rfl rfl)
theorem dX0_cell_23 : decode cX0_cell 23 = .ok (.saload, 1) := dk_53 (dk_at dksX0_cell_0 23 rfl rfl)
theorem dX0_cell_24 : decode cX0_cell 24 = .ok (.goto 9, 3) := dk_167 0 9 (dk_at dksX0_cell_1 0 rfl rfl)
theorem dX0_cell_27 : decode cX0_cell 27 = .ok (.aload_n 0, 1) := dk_42 (dk_at dksX0_cell_1 3 rfl rfl)
theorem dX0_cell_28 : decode cX0_cell 28 = .ok (.checkcast 401, 3) := dk_192 1 145 (dk_at dksX0_cell_1 4 rfl rfl)
theorem dX0_cell_31 : decode cX0_cell 31 = .ok (.iload_n 2, 1) := dk_28 (dk_at dksX0_cell_1 7 rfl rfl)
theorem dX0_cell_32 : decode cX0_cell 32 = .ok (.iaload, 1) := dk_46 (dk_at dksX0_cell_1 8 rfl rfl)
theorem dX0_cell_33 : decode cX0_cell 33 = .ok (.ireturn, 1) := dk_172 (dk_at dksX0_cell_1 9 rfl rfl)
abbrev cX0_count : ByteArray := prog_1_method_76_code
def yX0_count : MethodName := ⟨RX0, "count", "(I)I"⟩
def dkwX0_count_6 : List UInt8 := [199, 0, 8, 16, 252, 167, 0, 12, 42, 180, 1, 149, 3, 50, 180, 1, 161, 172, 2, 172]
abbrev dktX0_count_6 : List UInt8 := dkwX0_count_6 ++ []
def dkwX0_count_5 : List UInt8 := [167, 255, 223, 28, 172, 42, 180, 1, 131, 172, 42, 180, 1, 73, 172, 42, 180, 1, 149, 3, 50, 180, 1, 157]
abbrev dktX0_count_5 : List UInt8 := dkwX0_count_5 ++ dktX0_count_6
def dkwX0_count_4 : List UInt8 := [180, 1, 102, 29, 50, 180, 1, 106, 16, 252, 159, 0, 7, 4, 167, 0, 4, 3, 96, 61, 132, 3, 1]
abbrev dktX0_count_4 : List UInt8 := dkwX0_count_4 ++ dktX0_count_5
def dkwX0_count_3 : List UInt8 := [172, 42, 180, 0, 253, 172, 42, 180, 1, 80, 172, 3, 62, 29, 42, 180, 1, 80, 162, 0, 31, 28, 42]
abbrev dktX0_count_3 : List UInt8 := dkwX0_count_3 ++ dktX0_count_4
def dkwX0_count_2 : List UInt8 := [42, 180, 0, 9, 172, 42, 180, 0, 50, 172, 42, 182, 0, 96, 172, 42, 180, 0, 188, 172, 42, 180, 0, 216]
abbrev dktX0_count_2 : List UInt8 := dkwX0_count_2 ++ dktX0_count_3
def dkwX0_count_1 : List UInt8 := [170, 0, 0, 0, 169, 0, 0, 0, 0, 0, 0, 0, 10, 0, 0, 0, 57, 0, 0, 0, 62, 0, 0, 0, 67, 0, 0, 0, 72, 0, 0, 0, 77, 0, 0, 0, 82, 0, 0, 0, 87, 0, 0, 0, 92, 0, 0, 0, 132, 0, 0, 0, 137, 0, 0, 0, 142]
abbrev dktX0_count_1 : List UInt8 := dkwX0_count_1 ++ dktX0_count_2
def dkwX0_count_0 : List UInt8 := [3, 61, 27]
abbrev dktX0_count_0 : List UInt8 := dkwX0_count_0 ++ dktX0_count_1
theorem dksX0_count_0 : cX0_count.data.toList.drop 0 = dktX0_count_0 := by decide +kernel
theorem dksX0_count_1 : cX0_count.data.toList.drop 3 = dktX0_count_1 := dk_seg dksX0_count_0 3 rfl rfl
theorem dksX0_count_2 : cX0_count.data.toList.drop 60 = dktX0_count_2 := dk_seg dksX0_count_1 57 rfl rfl
theorem dksX0_count_3 : cX0_count.data.toList.drop 84 = dktX0_count_3 := dk_seg dksX0_count_2 24 rfl rfl
theorem dksX0_count_4 : cX0_count.data.toList.drop 107 = dktX0_count_4 := dk_seg dksX0_count_3 23 rfl rfl
theorem dksX0_count_5 : cX0_count.data.toList.drop 130 = dktX0_count_5 := dk_seg dksX0_count_4 23 rfl rfl
theorem dksX0_count_6 : cX0_count.data.toList.drop 154 = dktX0_count_6 := dk_seg dksX0_count_5 24 rfl rfl
theorem dX0_count_0 : decode cX0_count 0 = .ok (.iconst 0, 1) := dk_3 (dk_at dksX0_count_0 0 rfl rfl)
theorem dX0_count_1 : decode cX0_count 1 = .ok (.istore_n 2, 1) := dk_61 (dk_at dksX0_count_0 1 rfl rfl)
theorem dX0_count_2 : decode cX0_count 2 = .ok (.iload_n 1, 1) := dk_27 (dk_at dksX0_count_0 2 rfl rfl)
theorem dX0_count_3 : decode cX0_count 3 = .ok (.tableswitch 169 0 10 #[57, 62, 67, 72, 77, 82, 87, 92, 132, 137, 142], 57) := by decide +kernel
theorem dX0_count_60 : decode cX0_count 60 = .ok (.aload_n 0, 1) := dk_42 (dk_at dksX0_count_2 0 rfl rfl)
theorem dX0_count_61 : decode cX0_count 61 = .ok (.getfield 9, 3) := dk_180 0 9 (dk_at dksX0_count_2 1 rfl rfl)
theorem dX0_count_64 : decode cX0_count 64 = .ok (.ireturn, 1) := dk_172 (dk_at dksX0_count_2 4 rfl rfl)
theorem dX0_count_65 : decode cX0_count 65 = .ok (.aload_n 0, 1) := dk_42 (dk_at dksX0_count_2 5 rfl rfl)
theorem dX0_count_66 : decode cX0_count 66 = .ok (.getfield 50, 3) := dk_180 0 50 (dk_at dksX0_count_2 6 rfl rfl)
theorem dX0_count_69 : decode cX0_count 69 = .ok (.ireturn, 1) := dk_172 (dk_at dksX0_count_2 9 rfl rfl)
theorem dX0_count_70 : decode cX0_count 70 = .ok (.aload_n 0, 1) := dk_42 (dk_at dksX0_count_2 10 rfl rfl)
theorem dX0_count_71 : decode cX0_count 71 = .ok (.invokevirtual 96, 3) := dk_182 0 96 (dk_at dksX0_count_2 11 rfl rfl)
theorem dX0_count_74 : decode cX0_count 74 = .ok (.ireturn, 1) := dk_172 (dk_at dksX0_count_2 14 rfl rfl)
theorem dX0_count_75 : decode cX0_count 75 = .ok (.aload_n 0, 1) := dk_42 (dk_at dksX0_count_2 15 rfl rfl)
theorem dX0_count_76 : decode cX0_count 76 = .ok (.getfield 188, 3) := dk_180 0 188 (dk_at dksX0_count_2 16 rfl rfl)
theorem dX0_count_79 : decode cX0_count 79 = .ok (.ireturn, 1) := dk_172 (dk_at dksX0_count_2 19 rfl rfl)
theorem dX0_count_80 : decode cX0_count 80 = .ok (.aload_n 0, 1) := dk_42 (dk_at dksX0_count_2 20 rfl rfl)
theorem dX0_count_81 : decode cX0_count 81 = .ok (.getfield 216, 3) := dk_180 0 216 (dk_at dksX0_count_2 21 rfl rfl)
theorem dX0_count_84 : decode cX0_count 84 = .ok (.ireturn, 1) := dk_172 (dk_at dksX0_count_3 0 rfl rfl)
theorem dX0_count_85 : decode cX0_count 85 = .ok (.aload_n 0, 1) := dk_42 (dk_at dksX0_count_3 1 rfl rfl)
theorem dX0_count_86 : decode cX0_count 86 = .ok (.getfield 253, 3) := dk_180 0 253 (dk_at dksX0_count_3 2 rfl rfl)
theorem dX0_count_89 : decode cX0_count 89 = .ok (.ireturn, 1) := dk_172 (dk_at dksX0_count_3 5 rfl rfl)
theorem dX0_count_90 : decode cX0_count 90 = .ok (.aload_n 0, 1) := dk_42 (dk_at dksX0_count_3 6 rfl rfl)
theorem dX0_count_91 : decode cX0_count 91 = .ok (.getfield 336, 3) := dk_180 1 80 (dk_at dksX0_count_3 7 rfl rfl)
theorem dX0_count_94 : decode cX0_count 94 = .ok (.ireturn, 1) := dk_172 (dk_at dksX0_count_3 10 rfl rfl)
theorem dX0_count_95 : decode cX0_count 95 = .ok (.iconst 0, 1) := dk_3 (dk_at dksX0_count_3 11 rfl rfl)
theorem dX0_count_96 : decode cX0_count 96 = .ok (.istore_n 3, 1) := dk_62 (dk_at dksX0_count_3 12 rfl rfl)
theorem dX0_count_97 : decode cX0_count 97 = .ok (.iload_n 3, 1) := dk_29 (dk_at dksX0_count_3 13 rfl rfl)
theorem dX0_count_98 : decode cX0_count 98 = .ok (.aload_n 0, 1) := dk_42 (dk_at dksX0_count_3 14 rfl rfl)
theorem dX0_count_99 : decode cX0_count 99 = .ok (.getfield 336, 3) := dk_180 1 80 (dk_at dksX0_count_3 15 rfl rfl)
theorem dX0_count_102 : decode cX0_count 102 = .ok (.if_icmp .ge 31, 3) := dk_162 0 31 (dk_at dksX0_count_3 18 rfl rfl)
theorem dX0_count_105 : decode cX0_count 105 = .ok (.iload_n 2, 1) := dk_28 (dk_at dksX0_count_3 21 rfl rfl)
theorem dX0_count_106 : decode cX0_count 106 = .ok (.aload_n 0, 1) := dk_42 (dk_at dksX0_count_3 22 rfl rfl)
theorem dX0_count_107 : decode cX0_count 107 = .ok (.getfield 358, 3) := dk_180 1 102 (dk_at dksX0_count_4 0 rfl rfl)
theorem dX0_count_110 : decode cX0_count 110 = .ok (.iload_n 3, 1) := dk_29 (dk_at dksX0_count_4 3 rfl rfl)
theorem dX0_count_111 : decode cX0_count 111 = .ok (.aaload, 1) := dk_50 (dk_at dksX0_count_4 4 rfl rfl)
theorem dX0_count_112 : decode cX0_count 112 = .ok (.getfield 362, 3) := dk_180 1 106 (dk_at dksX0_count_4 5 rfl rfl)
theorem dX0_count_115 : decode cX0_count 115 = .ok (.bipush (-4), 2) := dk_16 252 (dk_at dksX0_count_4 8 rfl rfl)
theorem dX0_count_117 : decode cX0_count 117 = .ok (.if_icmp .eq 7, 3) := dk_159 0 7 (dk_at dksX0_count_4 10 rfl rfl)
theorem dX0_count_120 : decode cX0_count 120 = .ok (.iconst 1, 1) := dk_4 (dk_at dksX0_count_4 13 rfl rfl)
theorem dX0_count_121 : decode cX0_count 121 = .ok (.goto 4, 3) := dk_167 0 4 (dk_at dksX0_count_4 14 rfl rfl)
theorem dX0_count_124 : decode cX0_count 124 = .ok (.iconst 0, 1) := dk_3 (dk_at dksX0_count_4 17 rfl rfl)
theorem dX0_count_125 : decode cX0_count 125 = .ok (.iadd, 1) := dk_96 (dk_at dksX0_count_4 18 rfl rfl)
theorem dX0_count_126 : decode cX0_count 126 = .ok (.istore_n 2, 1) := dk_61 (dk_at dksX0_count_4 19 rfl rfl)
theorem dX0_count_127 : decode cX0_count 127 = .ok (.iinc 3 1, 3) := dk_132 3 1 (dk_at dksX0_count_4 20 rfl rfl)
theorem dX0_count_130 : decode cX0_count 130 = .ok (.goto (-33), 3) := dk_167 255 223 (dk_at dksX0_count_5 0 rfl rfl)
theorem dX0_count_133 : decode cX0_count 133 = .ok (.iload_n 2, 1) := dk_28 (dk_at dksX0_count_5 3 rfl rfl)
theorem dX0_count_134 : decode cX0_count 134 = .ok (.ireturn, 1) := dk_172 (dk_at dksX0_count_5 4 rfl rfl)
theorem dX0_count_135 : decode cX0_count 135 = .ok (.aload_n 0, 1) := dk_42 (dk_at dksX0_count_5 5 rfl rfl)
theorem dX0_count_136 : decode cX0_count 136 = .ok (.getfield 387, 3) := dk_180 1 131 (dk_at dksX0_count_5 6 rfl rfl)
theorem dX0_count_139 : decode cX0_count 139 = .ok (.ireturn, 1) := dk_172 (dk_at dksX0_count_5 9 rfl rfl)
theorem dX0_count_140 : decode cX0_count 140 = .ok (.aload_n 0, 1) := dk_42 (dk_at dksX0_count_5 10 rfl rfl)
theorem dX0_count_141 : decode cX0_count 141 = .ok (.getfield 329, 3) := dk_180 1 73 (dk_at dksX0_count_5 11 rfl rfl)
theorem dX0_count_144 : decode cX0_count 144 = .ok (.ireturn, 1) := dk_172 (dk_at dksX0_count_5 14 rfl rfl)
theorem dX0_count_145 : decode cX0_count 145 = .ok (.aload_n 0, 1) := dk_42 (dk_at dksX0_count_5 15 rfl rfl)
theorem dX0_count_146 : decode cX0_count 146 = .ok (.getfield 405, 3) := dk_180 1 149 (dk_at dksX0_count_5 16 rfl rfl)
theorem dX0_count_149 : decode cX0_count 149 = .ok (.iconst 0, 1) := dk_3 (dk_at dksX0_count_5 19 rfl rfl)
theorem dX0_count_150 : decode cX0_count 150 = .ok (.aaload, 1) := dk_50 (dk_at dksX0_count_5 20 rfl rfl)
theorem dX0_count_151 : decode cX0_count 151 = .ok (.getfield 413, 3) := dk_180 1 157 (dk_at dksX0_count_5 21 rfl rfl)
theorem dX0_count_154 : decode cX0_count 154 = .ok (.ifnonnull 8, 3) := dk_199 0 8 (dk_at dksX0_count_6 0 rfl rfl)
theorem dX0_count_157 : decode cX0_count 157 = .ok (.bipush (-4), 2) := dk_16 252 (dk_at dksX0_count_6 3 rfl rfl)
theorem dX0_count_159 : decode cX0_count 159 = .ok (.goto 12, 3) := dk_167 0 12 (dk_at dksX0_count_6 5 rfl rfl)
theorem dX0_count_162 : decode cX0_count 162 = .ok (.aload_n 0, 1) := dk_42 (dk_at dksX0_count_6 8 rfl rfl)
theorem dX0_count_163 : decode cX0_count 163 = .ok (.getfield 405, 3) := dk_180 1 149 (dk_at dksX0_count_6 9 rfl rfl)
theorem dX0_count_166 : decode cX0_count 166 = .ok (.iconst 0, 1) := dk_3 (dk_at dksX0_count_6 12 rfl rfl)
theorem dX0_count_167 : decode cX0_count 167 = .ok (.aaload, 1) := dk_50 (dk_at dksX0_count_6 13 rfl rfl)
theorem dX0_count_168 : decode cX0_count 168 = .ok (.getfield 417, 3) := dk_180 1 161 (dk_at dksX0_count_6 14 rfl rfl)
theorem dX0_count_171 : decode cX0_count 171 = .ok (.ireturn, 1) := dk_172 (dk_at dksX0_count_6 17 rfl rfl)
theorem dX0_count_172 : decode cX0_count 172 = .ok (.iconst (-1), 1) := dk_2 (dk_at dksX0_count_6 18 rfl rfl)
theorem dX0_count_173 : decode cX0_count 173 = .ok (.ireturn, 1) := dk_172 (dk_at dksX0_count_6 19 rfl rfl)
theorem q86 : (Jvm.Cond.initialized "UnreadScript") ∈ lw_all := lw_g (lw_at lw_m1 1 rfl) rfl
theorem q113 : (Jvm.Cond.instanceMethod ({ cls := "UnreadScript", name := "form", desc := "(I)I" } : Jvm.MethodName)) ∈ lw_all := lw_g (lw_at lw_m1 28 rfl) rfl
theorem q114 : (Jvm.Cond.selects "UnreadScript" ({ cls := "UnreadScript", name := "form", desc := "(I)I" } : Jvm.MethodName) ({ cls := "UnreadScript", name := "form", desc := "(I)I" } : Jvm.MethodName)) ∈ lw_all := lw_g (lw_at lw_m1 29 rfl) rfl
theorem q115 : (Jvm.Cond.code ({ cls := "UnreadScript", name := "form", desc := "(I)I" } : Jvm.MethodName) prog_1_method_2_code (2 : Nat) (Option.some Jvm.ClassFile.FieldType.int)) ∈ lw_all := lw_g (lw_at lw_m1 30 rfl) rfl
theorem q116 : (Jvm.Cond.constantLong "UnreadScript" (3 : Nat) (4095 : Int64)) ∈ lw_all := lw_g (lw_at lw_m1 31 rfl) rfl
theorem q117 : (Jvm.Cond.methodLink "UnreadScript" (5 : Nat) ({ cls := "UnreadScript", name := "isIn", desc := "(JJJ)Z" } : Jvm.MethodName)) ∈ lw_all := lw_g (lw_at lw_m1 32 rfl) rfl
theorem q118 : (Jvm.Cond.static ({ cls := "UnreadScript", name := "isIn", desc := "(JJJ)Z" } : Jvm.MethodName)) ∈ lw_all := lw_g (lw_at lw_m1 33 rfl) rfl
theorem q119 : (Jvm.Cond.code ({ cls := "UnreadScript", name := "isIn", desc := "(JJJ)Z" } : Jvm.MethodName) prog_1_method_1_code (6 : Nat) (Option.some Jvm.ClassFile.FieldType.boolean)) ∈ lw_all := lw_g (lw_at lw_m1 34 rfl) rfl
theorem q121 : (Jvm.Cond.instanceMethod ({ cls := "UnreadScript", name := "likeness", desc := "(I)I" } : Jvm.MethodName)) ∈ lw_all := lw_g (lw_at lw_m1 36 rfl) rfl
theorem q122 : (Jvm.Cond.selects "UnreadScript" ({ cls := "UnreadScript", name := "likeness", desc := "(I)I" } : Jvm.MethodName) ({ cls := "UnreadScript", name := "likeness", desc := "(I)I" } : Jvm.MethodName)) ∈ lw_all := lw_g (lw_at lw_m1 37 rfl) rfl
theorem q123 : (Jvm.Cond.code ({ cls := "UnreadScript", name := "likeness", desc := "(I)I" } : Jvm.MethodName) prog_1_method_3_code (3 : Nat) (Option.some Jvm.ClassFile.FieldType.int)) ∈ lw_all := lw_g (lw_at lw_m1 38 rfl) rfl
theorem q124 : (Jvm.Cond.constantLong "UnreadScript" (17 : Nat) (12 : Int64)) ∈ lw_all := lw_g (lw_at lw_m1 39 rfl) rfl
theorem q126 : (Jvm.Cond.instanceMethod ({ cls := "UnreadScript", name := "sign", desc := "(I)I" } : Jvm.MethodName)) ∈ lw_all := lw_g (lw_at lw_m1 41 rfl) rfl
theorem q127 : (Jvm.Cond.selects "UnreadScript" ({ cls := "UnreadScript", name := "sign", desc := "(I)I" } : Jvm.MethodName) ({ cls := "UnreadScript", name := "sign", desc := "(I)I" } : Jvm.MethodName)) ∈ lw_all := lw_g (lw_at lw_m1 42 rfl) rfl
theorem q128 : (Jvm.Cond.code ({ cls := "UnreadScript", name := "sign", desc := "(I)I" } : Jvm.MethodName) prog_1_method_7_code (2 : Nat) (Option.some Jvm.ClassFile.FieldType.int)) ∈ lw_all := lw_g (lw_at lw_m1 43 rfl) rfl
theorem q129 : (Jvm.Cond.methodLink "UnreadScript" (34 : Nat) ({ cls := "UnreadScript", name := "isForm", desc := "(I)Z" } : Jvm.MethodName)) ∈ lw_all := lw_g (lw_at lw_m1 44 rfl) rfl
theorem q130 : (Jvm.Cond.privateMethod ({ cls := "UnreadScript", name := "isForm", desc := "(I)Z" } : Jvm.MethodName)) ∈ lw_tbl := lw_at lw_m1 45 rfl
theorem q131 : (Jvm.Cond.instanceMethod ({ cls := "UnreadScript", name := "isForm", desc := "(I)Z" } : Jvm.MethodName)) ∈ lw_all := lw_g (lw_at lw_m1 46 rfl) rfl
theorem q132 : (Jvm.Cond.instantiable "UnreadScript" (49 : Nat)) ∈ lw_all := lw_g (lw_at lw_m1 47 rfl) rfl
theorem q133 : (Jvm.Cond.code ({ cls := "UnreadScript", name := "isForm", desc := "(I)Z" } : Jvm.MethodName) prog_1_method_4_code (2 : Nat) (Option.some Jvm.ClassFile.FieldType.boolean)) ∈ lw_all := lw_g (lw_at lw_m1 48 rfl) rfl
theorem q134 : (Jvm.Cond.methodLink "UnreadScript" (38 : Nat) ({ cls := "UnreadScript", name := "layAll", desc := "()V" } : Jvm.MethodName)) ∈ lw_all := lw_g (lw_at lw_m1 49 rfl) rfl
theorem q135 : (Jvm.Cond.privateMethod ({ cls := "UnreadScript", name := "layAll", desc := "()V" } : Jvm.MethodName)) ∈ lw_tbl := lw_at lw_m1 50 rfl
theorem q136 : (Jvm.Cond.instanceMethod ({ cls := "UnreadScript", name := "layAll", desc := "()V" } : Jvm.MethodName)) ∈ lw_all := lw_g (lw_at lw_m1 51 rfl) rfl
theorem q137 : (Jvm.Cond.code ({ cls := "UnreadScript", name := "layAll", desc := "()V" } : Jvm.MethodName) prog_1_method_6_code (1 : Nat) (Option.none : Option Jvm.ClassFile.FieldType)) ∈ lw_all := lw_g (lw_at lw_m1 52 rfl) rfl
theorem q138 : (Jvm.Cond.methodLink "UnreadScript" (31 : Nat) ({ cls := "UnreadScript", name := "laySigns", desc := "(I)I" } : Jvm.MethodName)) ∈ lw_all := lw_g (lw_at lw_m1 53 rfl) rfl
theorem q139 : (Jvm.Cond.privateMethod ({ cls := "UnreadScript", name := "laySigns", desc := "(I)I" } : Jvm.MethodName)) ∈ lw_tbl := lw_at lw_m1 54 rfl
theorem q140 : (Jvm.Cond.instanceMethod ({ cls := "UnreadScript", name := "laySigns", desc := "(I)I" } : Jvm.MethodName)) ∈ lw_all := lw_g (lw_at lw_m1 55 rfl) rfl
theorem q141 : (Jvm.Cond.code ({ cls := "UnreadScript", name := "laySigns", desc := "(I)I" } : Jvm.MethodName) prog_1_method_5_code (5 : Nat) (Option.some Jvm.ClassFile.FieldType.int)) ∈ lw_all := lw_g (lw_at lw_m1 56 rfl) rfl
theorem q142 : (Jvm.Cond.methodLink "UnreadScript" (25 : Nat) ({ cls := "java/lang/Integer", name := "bitCount", desc := "(I)I" } : Jvm.MethodName)) ∈ lw_all := lw_g (lw_at lw_m1 57 rfl) rfl
theorem q149 : (Jvm.Cond.instanceMethod ({ cls := "UnreadScript", name := "signs", desc := "(I)I" } : Jvm.MethodName)) ∈ lw_all := lw_g (lw_at lw_m1 64 rfl) rfl
theorem q150 : (Jvm.Cond.selects "UnreadScript" ({ cls := "UnreadScript", name := "signs", desc := "(I)I" } : Jvm.MethodName) ({ cls := "UnreadScript", name := "signs", desc := "(I)I" } : Jvm.MethodName)) ∈ lw_all := lw_g (lw_at lw_m1 65 rfl) rfl
theorem q151 : (Jvm.Cond.code ({ cls := "UnreadScript", name := "signs", desc := "(I)I" } : Jvm.MethodName) prog_1_method_10_code (5 : Nat) (Option.some Jvm.ClassFile.FieldType.int)) ∈ lw_all := lw_g (lw_at lw_m1 66 rfl) rfl
theorem q152 : (Jvm.Cond.constantLong "UnreadScript" (42 : Nat) (3 : Int64)) ∈ lw_all := lw_g (lw_at lw_m1 67 rfl) rfl
theorem q153 : (Jvm.Cond.methodLink "UnreadScript" (44 : Nat) ({ cls := "UnreadScript", name := "isSign", desc := "(I)Z" } : Jvm.MethodName)) ∈ lw_all := lw_g (lw_at lw_m1 68 rfl) rfl
theorem q154 : (Jvm.Cond.privateMethod ({ cls := "UnreadScript", name := "isSign", desc := "(I)Z" } : Jvm.MethodName)) ∈ lw_tbl := lw_at lw_m1 69 rfl
theorem q155 : (Jvm.Cond.instanceMethod ({ cls := "UnreadScript", name := "isSign", desc := "(I)Z" } : Jvm.MethodName)) ∈ lw_all := lw_g (lw_at lw_m1 70 rfl) rfl
theorem q156 : (Jvm.Cond.code ({ cls := "UnreadScript", name := "isSign", desc := "(I)Z" } : Jvm.MethodName) prog_1_method_8_code (2 : Nat) (Option.some Jvm.ClassFile.FieldType.boolean)) ∈ lw_all := lw_g (lw_at lw_m1 71 rfl) rfl
theorem q157 : (Jvm.Cond.methodLink "UnreadScript" (47 : Nat) ({ cls := "UnreadScript", name := "sizeOf", desc := "(I)I" } : Jvm.MethodName)) ∈ lw_all := lw_g (lw_at lw_m1 72 rfl) rfl
theorem q158 : (Jvm.Cond.privateMethod ({ cls := "UnreadScript", name := "sizeOf", desc := "(I)I" } : Jvm.MethodName)) ∈ lw_tbl := lw_at lw_m1 73 rfl
theorem q159 : (Jvm.Cond.instanceMethod ({ cls := "UnreadScript", name := "sizeOf", desc := "(I)I" } : Jvm.MethodName)) ∈ lw_all := lw_g (lw_at lw_m1 74 rfl) rfl
theorem q160 : (Jvm.Cond.code ({ cls := "UnreadScript", name := "sizeOf", desc := "(I)I" } : Jvm.MethodName) prog_1_method_9_code (4 : Nat) (Option.some Jvm.ClassFile.FieldType.int)) ∈ lw_all := lw_g (lw_at lw_m1 75 rfl) rfl
theorem q162 : (Jvm.Cond.instanceMethod ({ cls := "UnreadScript", name := "drop", desc := "()I" } : Jvm.MethodName)) ∈ lw_all := lw_g (lw_at lw_m1 77 rfl) rfl
theorem q163 : (Jvm.Cond.selects "UnreadScript" ({ cls := "UnreadScript", name := "drop", desc := "()I" } : Jvm.MethodName) ({ cls := "UnreadScript", name := "drop", desc := "()I" } : Jvm.MethodName)) ∈ lw_all := lw_g (lw_at lw_m1 78 rfl) rfl
theorem q164 : (Jvm.Cond.code ({ cls := "UnreadScript", name := "drop", desc := "()I" } : Jvm.MethodName) prog_1_method_13_code (1 : Nat) (Option.some Jvm.ClassFile.FieldType.int)) ∈ lw_all := lw_g (lw_at lw_m1 79 rfl) rfl
theorem q166 : (Jvm.Cond.instanceMethod ({ cls := "UnreadScript", name := "textOf", desc := "(II)I" } : Jvm.MethodName)) ∈ lw_all := lw_g (lw_at lw_m1 81 rfl) rfl
theorem q167 : (Jvm.Cond.selects "UnreadScript" ({ cls := "UnreadScript", name := "textOf", desc := "(II)I" } : Jvm.MethodName) ({ cls := "UnreadScript", name := "textOf", desc := "(II)I" } : Jvm.MethodName)) ∈ lw_all := lw_g (lw_at lw_m1 82 rfl) rfl
theorem q168 : (Jvm.Cond.code ({ cls := "UnreadScript", name := "textOf", desc := "(II)I" } : Jvm.MethodName) prog_1_method_14_code (11 : Nat) (Option.some Jvm.ClassFile.FieldType.int)) ∈ lw_all := lw_g (lw_at lw_m1 83 rfl) rfl
theorem q169 : (Jvm.Cond.methodLink "UnreadScript" (58 : Nat) ({ cls := "UnreadScript", name := "isText", desc := "(I)Z" } : Jvm.MethodName)) ∈ lw_all := lw_g (lw_at lw_m1 84 rfl) rfl
theorem q170 : (Jvm.Cond.privateMethod ({ cls := "UnreadScript", name := "isText", desc := "(I)Z" } : Jvm.MethodName)) ∈ lw_tbl := lw_at lw_m1 85 rfl
theorem q171 : (Jvm.Cond.instanceMethod ({ cls := "UnreadScript", name := "isText", desc := "(I)Z" } : Jvm.MethodName)) ∈ lw_all := lw_g (lw_at lw_m1 86 rfl) rfl
theorem q172 : (Jvm.Cond.code ({ cls := "UnreadScript", name := "isText", desc := "(I)Z" } : Jvm.MethodName) prog_1_method_11_code (2 : Nat) (Option.some Jvm.ClassFile.FieldType.boolean)) ∈ lw_all := lw_g (lw_at lw_m1 87 rfl) rfl
theorem q173 : (Jvm.Cond.constantLong "UnreadScript" (65 : Nat) (10 : Int64)) ∈ lw_all := lw_g (lw_at lw_m1 88 rfl) rfl
theorem q174 : (Jvm.Cond.methodLink "UnreadScript" (67 : Nat) ({ cls := "UnreadScript$Text", name := "size", desc := "()I" } : Jvm.MethodName)) ∈ lw_all := lw_g (lw_at lw_m1 89 rfl) rfl
theorem q178 : (Jvm.Cond.methodLink "UnreadScript" (71 : Nat) ({ cls := "UnreadScript", name := "signAt", desc := "(LUnreadScript$Text;I)I" } : Jvm.MethodName)) ∈ lw_all := lw_g (lw_at lw_m1 93 rfl) rfl
theorem q179 : (Jvm.Cond.privateMethod ({ cls := "UnreadScript", name := "signAt", desc := "(LUnreadScript$Text;I)I" } : Jvm.MethodName)) ∈ lw_tbl := lw_at lw_m1 94 rfl
theorem q180 : (Jvm.Cond.instanceMethod ({ cls := "UnreadScript", name := "signAt", desc := "(LUnreadScript$Text;I)I" } : Jvm.MethodName)) ∈ lw_all := lw_g (lw_at lw_m1 95 rfl) rfl
theorem q181 : (Jvm.Cond.code ({ cls := "UnreadScript", name := "signAt", desc := "(LUnreadScript$Text;I)I" } : Jvm.MethodName) prog_1_method_12_code (3 : Nat) (Option.some Jvm.ClassFile.FieldType.int)) ∈ lw_all := lw_g (lw_at lw_m1 96 rfl) rfl
theorem q182 : (Jvm.Cond.methodLink "UnreadScript" (75 : Nat) ({ cls := "UnreadScript$Text", name := "endOf", desc := "(I)I" } : Jvm.MethodName)) ∈ lw_all := lw_g (lw_at lw_m1 97 rfl) rfl
theorem q186 : (Jvm.Cond.methodLink "UnreadScript" (78 : Nat) ({ cls := "UnreadScript$Text", name := "isWhole", desc := "(II)Z" } : Jvm.MethodName)) ∈ lw_all := lw_g (lw_at lw_m1 101 rfl) rfl
theorem q190 : (Jvm.Cond.methodLink "UnreadScript" (82 : Nat) ({ cls := "java/lang/Math", name := "max", desc := "(II)I" } : Jvm.MethodName)) ∈ lw_all := lw_g (lw_at lw_m1 105 rfl) rfl
theorem q194 : (Jvm.Cond.instanceMethod ({ cls := "UnreadScript", name := "counted", desc := "(I)I" } : Jvm.MethodName)) ∈ lw_all := lw_g (lw_at lw_m1 109 rfl) rfl
theorem q195 : (Jvm.Cond.selects "UnreadScript" ({ cls := "UnreadScript", name := "counted", desc := "(I)I" } : Jvm.MethodName) ({ cls := "UnreadScript", name := "counted", desc := "(I)I" } : Jvm.MethodName)) ∈ lw_all := lw_g (lw_at lw_m1 110 rfl) rfl
theorem q196 : (Jvm.Cond.code ({ cls := "UnreadScript", name := "counted", desc := "(I)I" } : Jvm.MethodName) prog_1_method_16_code (2 : Nat) (Option.some Jvm.ClassFile.FieldType.int)) ∈ lw_all := lw_g (lw_at lw_m1 111 rfl) rfl
theorem q197 : (Jvm.Cond.methodLink "UnreadScript" (88 : Nat) ({ cls := "UnreadScript", name := "countOf", desc := "(I)I" } : Jvm.MethodName)) ∈ lw_all := lw_g (lw_at lw_m1 112 rfl) rfl
theorem q198 : (Jvm.Cond.privateMethod ({ cls := "UnreadScript", name := "countOf", desc := "(I)I" } : Jvm.MethodName)) ∈ lw_tbl := lw_at lw_m1 113 rfl
theorem q199 : (Jvm.Cond.instanceMethod ({ cls := "UnreadScript", name := "countOf", desc := "(I)I" } : Jvm.MethodName)) ∈ lw_all := lw_g (lw_at lw_m1 114 rfl) rfl
theorem q200 : (Jvm.Cond.code ({ cls := "UnreadScript", name := "countOf", desc := "(I)I" } : Jvm.MethodName) prog_1_method_15_code (5 : Nat) (Option.some Jvm.ClassFile.FieldType.int)) ∈ lw_all := lw_g (lw_at lw_m1 115 rfl) rfl
theorem q202 : (Jvm.Cond.instanceMethod ({ cls := "UnreadScript", name := "beside", desc := "(II)I" } : Jvm.MethodName)) ∈ lw_all := lw_g (lw_at lw_m1 117 rfl) rfl
theorem q203 : (Jvm.Cond.selects "UnreadScript" ({ cls := "UnreadScript", name := "beside", desc := "(II)I" } : Jvm.MethodName) ({ cls := "UnreadScript", name := "beside", desc := "(II)I" } : Jvm.MethodName)) ∈ lw_all := lw_g (lw_at lw_m1 118 rfl) rfl
theorem q204 : (Jvm.Cond.code ({ cls := "UnreadScript", name := "beside", desc := "(II)I" } : Jvm.MethodName) prog_1_method_18_code (3 : Nat) (Option.some Jvm.ClassFile.FieldType.int)) ∈ lw_all := lw_g (lw_at lw_m1 119 rfl) rfl
theorem q205 : (Jvm.Cond.methodLink "UnreadScript" (91 : Nat) ({ cls := "UnreadScript", name := "besideOf", desc := "(II)I" } : Jvm.MethodName)) ∈ lw_all := lw_g (lw_at lw_m1 120 rfl) rfl
theorem q206 : (Jvm.Cond.privateMethod ({ cls := "UnreadScript", name := "besideOf", desc := "(II)I" } : Jvm.MethodName)) ∈ lw_tbl := lw_at lw_m1 121 rfl
theorem q207 : (Jvm.Cond.instanceMethod ({ cls := "UnreadScript", name := "besideOf", desc := "(II)I" } : Jvm.MethodName)) ∈ lw_all := lw_g (lw_at lw_m1 122 rfl) rfl
theorem q208 : (Jvm.Cond.code ({ cls := "UnreadScript", name := "besideOf", desc := "(II)I" } : Jvm.MethodName) prog_1_method_17_code (8 : Nat) (Option.some Jvm.ClassFile.FieldType.int)) ∈ lw_all := lw_g (lw_at lw_m1 123 rfl) rfl
theorem q210 : (Jvm.Cond.instanceMethod ({ cls := "UnreadScript", name := "chance", desc := "(III)J" } : Jvm.MethodName)) ∈ lw_all := lw_g (lw_at lw_m1 125 rfl) rfl
theorem q211 : (Jvm.Cond.selects "UnreadScript" ({ cls := "UnreadScript", name := "chance", desc := "(III)J" } : Jvm.MethodName) ({ cls := "UnreadScript", name := "chance", desc := "(III)J" } : Jvm.MethodName)) ∈ lw_all := lw_g (lw_at lw_m1 126 rfl) rfl
theorem q212 : (Jvm.Cond.code ({ cls := "UnreadScript", name := "chance", desc := "(III)J" } : Jvm.MethodName) prog_1_method_20_code (16 : Nat) (Option.some Jvm.ClassFile.FieldType.long)) ∈ lw_all := lw_g (lw_at lw_m1 127 rfl) rfl
theorem q213 : (Jvm.Cond.constantLong "UnreadScript" (94 : Nat) (-1 : Int64)) ∈ lw_all := lw_g (lw_at lw_m1 128 rfl) rfl
theorem q214 : (Jvm.Cond.methodLink "UnreadScript" (96 : Nat) ({ cls := "UnreadScript", name := "allSigns", desc := "()I" } : Jvm.MethodName)) ∈ lw_all := lw_g (lw_at lw_m1 129 rfl) rfl
theorem q215 : (Jvm.Cond.privateMethod ({ cls := "UnreadScript", name := "allSigns", desc := "()I" } : Jvm.MethodName)) ∈ lw_tbl := lw_at lw_m1 130 rfl
theorem q216 : (Jvm.Cond.instanceMethod ({ cls := "UnreadScript", name := "allSigns", desc := "()I" } : Jvm.MethodName)) ∈ lw_all := lw_g (lw_at lw_m1 131 rfl) rfl
theorem q217 : (Jvm.Cond.code ({ cls := "UnreadScript", name := "allSigns", desc := "()I" } : Jvm.MethodName) prog_1_method_19_code (7 : Nat) (Option.some Jvm.ClassFile.FieldType.int)) ∈ lw_all := lw_g (lw_at lw_m1 132 rfl) rfl
theorem q218 : (Jvm.Cond.constantLong "UnreadScript" (99 : Nat) (2 : Int64)) ∈ lw_all := lw_g (lw_at lw_m1 133 rfl) rfl
theorem q220 : (Jvm.Cond.instanceMethod ({ cls := "UnreadScript", name := "runs", desc := "(I)I" } : Jvm.MethodName)) ∈ lw_all := lw_g (lw_at lw_m1 135 rfl) rfl
theorem q221 : (Jvm.Cond.selects "UnreadScript" ({ cls := "UnreadScript", name := "runs", desc := "(I)I" } : Jvm.MethodName) ({ cls := "UnreadScript", name := "runs", desc := "(I)I" } : Jvm.MethodName)) ∈ lw_all := lw_g (lw_at lw_m1 136 rfl) rfl
theorem q222 : (Jvm.Cond.code ({ cls := "UnreadScript", name := "runs", desc := "(I)I" } : Jvm.MethodName) prog_1_method_21_code (6 : Nat) (Option.some Jvm.ClassFile.FieldType.int)) ∈ lw_all := lw_g (lw_at lw_m1 137 rfl) rfl
theorem q223 : (Jvm.Cond.methodLink "UnreadScript" (104 : Nat) ({ cls := "java/util/Arrays", name := "fill", desc := "([II)V" } : Jvm.MethodName)) ∈ lw_all := lw_g (lw_at lw_m1 138 rfl) rfl
theorem q226 : (Jvm.Cond.methodLink "UnreadScript" (113 : Nat) ({ cls := "java/lang/Integer", name := "compare", desc := "(II)I" } : Jvm.MethodName)) ∈ lw_all := lw_g (lw_at lw_m1 141 rfl) rfl
theorem q230 : (Jvm.Cond.instanceMethod ({ cls := "UnreadScript", name := "akin", desc := "(II)I" } : Jvm.MethodName)) ∈ lw_all := lw_g (lw_at lw_m1 145 rfl) rfl
theorem q231 : (Jvm.Cond.selects "UnreadScript" ({ cls := "UnreadScript", name := "akin", desc := "(II)I" } : Jvm.MethodName) ({ cls := "UnreadScript", name := "akin", desc := "(II)I" } : Jvm.MethodName)) ∈ lw_all := lw_g (lw_at lw_m1 146 rfl) rfl
theorem q232 : (Jvm.Cond.code ({ cls := "UnreadScript", name := "akin", desc := "(II)I" } : Jvm.MethodName) prog_1_method_26_code (3 : Nat) (Option.some Jvm.ClassFile.FieldType.int)) ∈ lw_all := lw_g (lw_at lw_m1 147 rfl) rfl
theorem q233 : (Jvm.Cond.methodLink "UnreadScript" (148 : Nat) ({ cls := "UnreadScript", name := "layAkin", desc := "()V" } : Jvm.MethodName)) ∈ lw_all := lw_g (lw_at lw_m1 148 rfl) rfl
theorem q234 : (Jvm.Cond.privateMethod ({ cls := "UnreadScript", name := "layAkin", desc := "()V" } : Jvm.MethodName)) ∈ lw_tbl := lw_at lw_m1 149 rfl
theorem q235 : (Jvm.Cond.instanceMethod ({ cls := "UnreadScript", name := "layAkin", desc := "()V" } : Jvm.MethodName)) ∈ lw_all := lw_g (lw_at lw_m1 150 rfl) rfl
theorem q236 : (Jvm.Cond.code ({ cls := "UnreadScript", name := "layAkin", desc := "()V" } : Jvm.MethodName) prog_1_method_25_code (5 : Nat) (Option.none : Option Jvm.ClassFile.FieldType)) ∈ lw_all := lw_g (lw_at lw_m1 151 rfl) rfl
theorem q237 : (Jvm.Cond.methodLink "UnreadScript" (132 : Nat) ({ cls := "UnreadScript", name := "layWords", desc := "()V" } : Jvm.MethodName)) ∈ lw_all := lw_g (lw_at lw_m1 152 rfl) rfl
theorem q238 : (Jvm.Cond.privateMethod ({ cls := "UnreadScript", name := "layWords", desc := "()V" } : Jvm.MethodName)) ∈ lw_tbl := lw_at lw_m1 153 rfl
theorem q239 : (Jvm.Cond.instanceMethod ({ cls := "UnreadScript", name := "layWords", desc := "()V" } : Jvm.MethodName)) ∈ lw_all := lw_g (lw_at lw_m1 154 rfl) rfl
theorem q240 : (Jvm.Cond.code ({ cls := "UnreadScript", name := "layWords", desc := "()V" } : Jvm.MethodName) prog_1_method_23_code (6 : Nat) (Option.none : Option Jvm.ClassFile.FieldType)) ∈ lw_all := lw_g (lw_at lw_m1 155 rfl) rfl
theorem q241 : (Jvm.Cond.methodLink "UnreadScript" (128 : Nat) ({ cls := "UnreadScript", name := "areAlike", desc := "(III)Z" } : Jvm.MethodName)) ∈ lw_all := lw_g (lw_at lw_m1 156 rfl) rfl
theorem q242 : (Jvm.Cond.privateMethod ({ cls := "UnreadScript", name := "areAlike", desc := "(III)Z" } : Jvm.MethodName)) ∈ lw_tbl := lw_at lw_m1 157 rfl
theorem q243 : (Jvm.Cond.instanceMethod ({ cls := "UnreadScript", name := "areAlike", desc := "(III)Z" } : Jvm.MethodName)) ∈ lw_all := lw_g (lw_at lw_m1 158 rfl) rfl
theorem q244 : (Jvm.Cond.code ({ cls := "UnreadScript", name := "areAlike", desc := "(III)Z" } : Jvm.MethodName) prog_1_method_22_code (9 : Nat) (Option.some Jvm.ClassFile.FieldType.boolean)) ∈ lw_all := lw_g (lw_at lw_m1 159 rfl) rfl
theorem q245 : (Jvm.Cond.methodLink "UnreadScript" (142 : Nat) ({ cls := "UnreadScript", name := "lastOf", desc := "(I)I" } : Jvm.MethodName)) ∈ lw_all := lw_g (lw_at lw_m1 160 rfl) rfl
theorem q246 : (Jvm.Cond.privateMethod ({ cls := "UnreadScript", name := "lastOf", desc := "(I)I" } : Jvm.MethodName)) ∈ lw_tbl := lw_at lw_m1 161 rfl
theorem q247 : (Jvm.Cond.instanceMethod ({ cls := "UnreadScript", name := "lastOf", desc := "(I)I" } : Jvm.MethodName)) ∈ lw_all := lw_g (lw_at lw_m1 162 rfl) rfl
theorem q248 : (Jvm.Cond.code ({ cls := "UnreadScript", name := "lastOf", desc := "(I)I" } : Jvm.MethodName) prog_1_method_24_code (2 : Nat) (Option.some Jvm.ClassFile.FieldType.int)) ∈ lw_all := lw_g (lw_at lw_m1 163 rfl) rfl
theorem q250 : (Jvm.Cond.instanceMethod ({ cls := "UnreadScript", name := "apart", desc := "(III)I" } : Jvm.MethodName)) ∈ lw_all := lw_g (lw_at lw_m1 165 rfl) rfl
theorem q251 : (Jvm.Cond.selects "UnreadScript" ({ cls := "UnreadScript", name := "apart", desc := "(III)I" } : Jvm.MethodName) ({ cls := "UnreadScript", name := "apart", desc := "(III)I" } : Jvm.MethodName)) ∈ lw_all := lw_g (lw_at lw_m1 166 rfl) rfl
theorem q252 : (Jvm.Cond.code ({ cls := "UnreadScript", name := "apart", desc := "(III)I" } : Jvm.MethodName) prog_1_method_27_code (5 : Nat) (Option.some Jvm.ClassFile.FieldType.int)) ∈ lw_all := lw_g (lw_at lw_m1 167 rfl) rfl
theorem q253 : (Jvm.Cond.constantLong "UnreadScript" (151 : Nat) (9 : Int64)) ∈ lw_all := lw_g (lw_at lw_m1 168 rfl) rfl
theorem q255 : (Jvm.Cond.instanceMethod ({ cls := "UnreadScript", name := "grid", desc := "(II)I" } : Jvm.MethodName)) ∈ lw_all := lw_g (lw_at lw_m1 170 rfl) rfl
theorem q256 : (Jvm.Cond.selects "UnreadScript" ({ cls := "UnreadScript", name := "grid", desc := "(II)I" } : Jvm.MethodName) ({ cls := "UnreadScript", name := "grid", desc := "(II)I" } : Jvm.MethodName)) ∈ lw_all := lw_g (lw_at lw_m1 171 rfl) rfl
theorem q257 : (Jvm.Cond.code ({ cls := "UnreadScript", name := "grid", desc := "(II)I" } : Jvm.MethodName) prog_1_method_30_code (4 : Nat) (Option.some Jvm.ClassFile.FieldType.int)) ∈ lw_all := lw_g (lw_at lw_m1 172 rfl) rfl
theorem q258 : (Jvm.Cond.methodLink "UnreadScript" (175 : Nat) ({ cls := "UnreadScript", name := "layGrid", desc := "(I)I" } : Jvm.MethodName)) ∈ lw_all := lw_g (lw_at lw_m1 173 rfl) rfl
theorem q259 : (Jvm.Cond.privateMethod ({ cls := "UnreadScript", name := "layGrid", desc := "(I)I" } : Jvm.MethodName)) ∈ lw_tbl := lw_at lw_m1 174 rfl
theorem q260 : (Jvm.Cond.instanceMethod ({ cls := "UnreadScript", name := "layGrid", desc := "(I)I" } : Jvm.MethodName)) ∈ lw_all := lw_g (lw_at lw_m1 175 rfl) rfl
theorem q261 : (Jvm.Cond.code ({ cls := "UnreadScript", name := "layGrid", desc := "(I)I" } : Jvm.MethodName) prog_1_method_29_code (6 : Nat) (Option.some Jvm.ClassFile.FieldType.int)) ∈ lw_all := lw_g (lw_at lw_m1 176 rfl) rfl
theorem q262 : (Jvm.Cond.constant "UnreadScript" (162 : Nat) (2147483647 : Int32)) ∈ lw_all := lw_g (lw_at lw_m1 177 rfl) rfl
theorem q263 : (Jvm.Cond.methodLink "UnreadScript" (163 : Nat) ({ cls := "UnreadScript", name := "quarrel", desc := "()I" } : Jvm.MethodName)) ∈ lw_all := lw_g (lw_at lw_m1 178 rfl) rfl
theorem q264 : (Jvm.Cond.privateMethod ({ cls := "UnreadScript", name := "quarrel", desc := "()I" } : Jvm.MethodName)) ∈ lw_tbl := lw_at lw_m1 179 rfl
theorem q265 : (Jvm.Cond.instanceMethod ({ cls := "UnreadScript", name := "quarrel", desc := "()I" } : Jvm.MethodName)) ∈ lw_all := lw_g (lw_at lw_m1 180 rfl) rfl
theorem q266 : (Jvm.Cond.code ({ cls := "UnreadScript", name := "quarrel", desc := "()I" } : Jvm.MethodName) prog_1_method_28_code (6 : Nat) (Option.some Jvm.ClassFile.FieldType.int)) ∈ lw_all := lw_g (lw_at lw_m1 181 rfl) rfl
theorem q267 : (Jvm.Cond.methodLink "UnreadScript" (169 : Nat) ({ cls := "java/lang/System", name := "arraycopy", desc := "(Ljava/lang/Object;ILjava/lang/Object;II)V" } : Jvm.MethodName)) ∈ lw_all := lw_g (lw_at lw_m1 182 rfl) rfl
theorem q270 : (Jvm.Cond.constantLong "UnreadScript" (178 : Nat) (30 : Int64)) ∈ lw_all := lw_g (lw_at lw_m1 185 rfl) rfl
theorem q272 : (Jvm.Cond.instanceMethod ({ cls := "UnreadScript", name := "account", desc := "(II)I" } : Jvm.MethodName)) ∈ lw_all := lw_g (lw_at lw_m1 187 rfl) rfl
theorem q273 : (Jvm.Cond.selects "UnreadScript" ({ cls := "UnreadScript", name := "account", desc := "(II)I" } : Jvm.MethodName) ({ cls := "UnreadScript", name := "account", desc := "(II)I" } : Jvm.MethodName)) ∈ lw_all := lw_g (lw_at lw_m1 188 rfl) rfl
theorem q274 : (Jvm.Cond.code ({ cls := "UnreadScript", name := "account", desc := "(II)I" } : Jvm.MethodName) prog_1_method_33_code (3 : Nat) (Option.some Jvm.ClassFile.FieldType.int)) ∈ lw_all := lw_g (lw_at lw_m1 189 rfl) rfl
theorem q275 : (Jvm.Cond.methodLink "UnreadScript" (185 : Nat) ({ cls := "UnreadScript", name := "isCounted", desc := "(I)Z" } : Jvm.MethodName)) ∈ lw_all := lw_g (lw_at lw_m1 190 rfl) rfl
theorem q276 : (Jvm.Cond.static ({ cls := "UnreadScript", name := "isCounted", desc := "(I)Z" } : Jvm.MethodName)) ∈ lw_all := lw_g (lw_at lw_m1 191 rfl) rfl
theorem q277 : (Jvm.Cond.code ({ cls := "UnreadScript", name := "isCounted", desc := "(I)Z" } : Jvm.MethodName) prog_1_method_32_code (3 : Nat) (Option.some Jvm.ClassFile.FieldType.boolean)) ∈ lw_all := lw_g (lw_at lw_m1 192 rfl) rfl
theorem q278 : (Jvm.Cond.constantLong "UnreadScript" (180 : Nat) (1048575 : Int64)) ∈ lw_all := lw_g (lw_at lw_m1 193 rfl) rfl
theorem q279 : (Jvm.Cond.methodLink "UnreadScript" (182 : Nat) ({ cls := "UnreadScript", name := "marked", desc := "(II)I" } : Jvm.MethodName)) ∈ lw_all := lw_g (lw_at lw_m1 194 rfl) rfl
theorem q280 : (Jvm.Cond.static ({ cls := "UnreadScript", name := "marked", desc := "(II)I" } : Jvm.MethodName)) ∈ lw_all := lw_g (lw_at lw_m1 195 rfl) rfl
theorem q281 : (Jvm.Cond.code ({ cls := "UnreadScript", name := "marked", desc := "(II)I" } : Jvm.MethodName) prog_1_method_31_code (2 : Nat) (Option.some Jvm.ClassFile.FieldType.int)) ∈ lw_all := lw_g (lw_at lw_m1 196 rfl) rfl
theorem q283 : (Jvm.Cond.instanceMethod ({ cls := "UnreadScript", name := "values", desc := "(I)I" } : Jvm.MethodName)) ∈ lw_all := lw_g (lw_at lw_m1 198 rfl) rfl
theorem q284 : (Jvm.Cond.selects "UnreadScript" ({ cls := "UnreadScript", name := "values", desc := "(I)I" } : Jvm.MethodName) ({ cls := "UnreadScript", name := "values", desc := "(I)I" } : Jvm.MethodName)) ∈ lw_all := lw_g (lw_at lw_m1 199 rfl) rfl
theorem q285 : (Jvm.Cond.code ({ cls := "UnreadScript", name := "values", desc := "(I)I" } : Jvm.MethodName) prog_1_method_36_code (4 : Nat) (Option.some Jvm.ClassFile.FieldType.int)) ∈ lw_all := lw_g (lw_at lw_m1 200 rfl) rfl
theorem q286 : (Jvm.Cond.constantLong "UnreadScript" (203 : Nat) (4 : Int64)) ∈ lw_all := lw_g (lw_at lw_m1 201 rfl) rfl
theorem q287 : (Jvm.Cond.methodLink "UnreadScript" (205 : Nat) ({ cls := "UnreadScript", name := "pick", desc := "(I)V" } : Jvm.MethodName)) ∈ lw_all := lw_g (lw_at lw_m1 202 rfl) rfl
theorem q288 : (Jvm.Cond.privateMethod ({ cls := "UnreadScript", name := "pick", desc := "(I)V" } : Jvm.MethodName)) ∈ lw_tbl := lw_at lw_m1 203 rfl
theorem q289 : (Jvm.Cond.instanceMethod ({ cls := "UnreadScript", name := "pick", desc := "(I)V" } : Jvm.MethodName)) ∈ lw_all := lw_g (lw_at lw_m1 204 rfl) rfl
theorem q290 : (Jvm.Cond.code ({ cls := "UnreadScript", name := "pick", desc := "(I)V" } : Jvm.MethodName) prog_1_method_35_code (3 : Nat) (Option.none : Option Jvm.ClassFile.FieldType)) ∈ lw_all := lw_g (lw_at lw_m1 205 rfl) rfl
theorem q291 : (Jvm.Cond.methodLink "UnreadScript" (209 : Nat) ({ cls := "UnreadScript", name := "doFit", desc := "()Z" } : Jvm.MethodName)) ∈ lw_all := lw_g (lw_at lw_m1 206 rfl) rfl
theorem q292 : (Jvm.Cond.privateMethod ({ cls := "UnreadScript", name := "doFit", desc := "()Z" } : Jvm.MethodName)) ∈ lw_tbl := lw_at lw_m1 207 rfl
theorem q293 : (Jvm.Cond.instanceMethod ({ cls := "UnreadScript", name := "doFit", desc := "()Z" } : Jvm.MethodName)) ∈ lw_all := lw_g (lw_at lw_m1 208 rfl) rfl
theorem q294 : (Jvm.Cond.code ({ cls := "UnreadScript", name := "doFit", desc := "()Z" } : Jvm.MethodName) prog_1_method_34_code (5 : Nat) (Option.some Jvm.ClassFile.FieldType.boolean)) ∈ lw_all := lw_g (lw_at lw_m1 209 rfl) rfl
theorem q295 : (Jvm.Cond.fieldLink "UnreadScript" (200 : Nat) "UnreadScript" "LIST" "[I") ∈ lw_all := lw_g (lw_at lw_m1 210 rfl) rfl
theorem q296 : (Jvm.Cond.laysStatic "UnreadScript" "LIST" "[I") ∈ lw_tbl := lw_at lw_m1 211 rfl
theorem q298 : (Jvm.Cond.instanceMethod ({ cls := "UnreadScript", name := "sure", desc := "(I)I" } : Jvm.MethodName)) ∈ lw_all := lw_g (lw_at lw_m1 213 rfl) rfl
theorem q299 : (Jvm.Cond.selects "UnreadScript" ({ cls := "UnreadScript", name := "sure", desc := "(I)I" } : Jvm.MethodName) ({ cls := "UnreadScript", name := "sure", desc := "(I)I" } : Jvm.MethodName)) ∈ lw_all := lw_g (lw_at lw_m1 214 rfl) rfl
theorem q300 : (Jvm.Cond.code ({ cls := "UnreadScript", name := "sure", desc := "(I)I" } : Jvm.MethodName) prog_1_method_37_code (4 : Nat) (Option.some Jvm.ClassFile.FieldType.int)) ∈ lw_all := lw_g (lw_at lw_m1 215 rfl) rfl
theorem q302 : (Jvm.Cond.instanceMethod ({ cls := "UnreadScript", name := "name", desc := "(II)I" } : Jvm.MethodName)) ∈ lw_all := lw_g (lw_at lw_m1 217 rfl) rfl
theorem q303 : (Jvm.Cond.selects "UnreadScript" ({ cls := "UnreadScript", name := "name", desc := "(II)I" } : Jvm.MethodName) ({ cls := "UnreadScript", name := "name", desc := "(II)I" } : Jvm.MethodName)) ∈ lw_all := lw_g (lw_at lw_m1 218 rfl) rfl
theorem q304 : (Jvm.Cond.code ({ cls := "UnreadScript", name := "name", desc := "(II)I" } : Jvm.MethodName) prog_1_method_39_code (3 : Nat) (Option.some Jvm.ClassFile.FieldType.int)) ∈ lw_all := lw_g (lw_at lw_m1 219 rfl) rfl
theorem q305 : (Jvm.Cond.methodLink "UnreadScript" (213 : Nat) ({ cls := "UnreadScript", name := "areSounds", desc := "(III)Z" } : Jvm.MethodName)) ∈ lw_all := lw_g (lw_at lw_m1 220 rfl) rfl
theorem q306 : (Jvm.Cond.static ({ cls := "UnreadScript", name := "areSounds", desc := "(III)Z" } : Jvm.MethodName)) ∈ lw_all := lw_g (lw_at lw_m1 221 rfl) rfl
theorem q307 : (Jvm.Cond.code ({ cls := "UnreadScript", name := "areSounds", desc := "(III)Z" } : Jvm.MethodName) prog_1_method_38_code (3 : Nat) (Option.some Jvm.ClassFile.FieldType.boolean)) ∈ lw_all := lw_g (lw_at lw_m1 222 rfl) rfl
theorem q308 : (Jvm.Cond.classLink "UnreadScript" (223 : Nat) "UnreadScript$Name") ∈ lw_all := lw_g (lw_at lw_m1 223 rfl) rfl
theorem q310 : (Jvm.Cond.methodLink "UnreadScript" (225 : Nat) ({ cls := "UnreadScript$Name", name := "<init>", desc := "(II)V" } : Jvm.MethodName)) ∈ lw_all := lw_g (lw_at lw_m1 225 rfl) rfl
theorem q320 : (Jvm.Cond.fieldLink "UnreadScript" (236 : Nat) "UnreadScript$Name" "sounds" "[I") ∈ lw_all := lw_g (lw_at lw_m1 235 rfl) rfl
theorem q327 : (Jvm.Cond.instanceMethod ({ cls := "UnreadScript", name := "dragged", desc := "(III)I" } : Jvm.MethodName)) ∈ lw_all := lw_g (lw_at lw_m2 2 rfl) rfl
theorem q328 : (Jvm.Cond.selects "UnreadScript" ({ cls := "UnreadScript", name := "dragged", desc := "(III)I" } : Jvm.MethodName) ({ cls := "UnreadScript", name := "dragged", desc := "(III)I" } : Jvm.MethodName)) ∈ lw_all := lw_g (lw_at lw_m2 3 rfl) rfl
theorem q329 : (Jvm.Cond.code ({ cls := "UnreadScript", name := "dragged", desc := "(III)I" } : Jvm.MethodName) prog_1_method_43_code (8 : Nat) (Option.some Jvm.ClassFile.FieldType.int)) ∈ lw_all := lw_g (lw_at lw_m2 4 rfl) rfl
theorem q330 : (Jvm.Cond.methodLink "UnreadScript" (239 : Nat) ({ cls := "UnreadScript", name := "isName", desc := "(I)Z" } : Jvm.MethodName)) ∈ lw_all := lw_g (lw_at lw_m2 5 rfl) rfl
theorem q331 : (Jvm.Cond.privateMethod ({ cls := "UnreadScript", name := "isName", desc := "(I)Z" } : Jvm.MethodName)) ∈ lw_tbl := lw_at lw_m2 6 rfl
theorem q332 : (Jvm.Cond.instanceMethod ({ cls := "UnreadScript", name := "isName", desc := "(I)Z" } : Jvm.MethodName)) ∈ lw_all := lw_g (lw_at lw_m2 7 rfl) rfl
theorem q333 : (Jvm.Cond.code ({ cls := "UnreadScript", name := "isName", desc := "(I)Z" } : Jvm.MethodName) prog_1_method_42_code (2 : Nat) (Option.some Jvm.ClassFile.FieldType.boolean)) ∈ lw_all := lw_g (lw_at lw_m2 8 rfl) rfl
theorem q334 : (Jvm.Cond.methodLink "UnreadScript" (242 : Nat) ({ cls := "UnreadScript", name := "clear", desc := "()V" } : Jvm.MethodName)) ∈ lw_all := lw_g (lw_at lw_m2 9 rfl) rfl
theorem q335 : (Jvm.Cond.privateMethod ({ cls := "UnreadScript", name := "clear", desc := "()V" } : Jvm.MethodName)) ∈ lw_tbl := lw_at lw_m2 10 rfl
theorem q336 : (Jvm.Cond.instanceMethod ({ cls := "UnreadScript", name := "clear", desc := "()V" } : Jvm.MethodName)) ∈ lw_all := lw_g (lw_at lw_m2 11 rfl) rfl
theorem q337 : (Jvm.Cond.code ({ cls := "UnreadScript", name := "clear", desc := "()V" } : Jvm.MethodName) prog_1_method_40_code (1 : Nat) (Option.none : Option Jvm.ClassFile.FieldType)) ∈ lw_all := lw_g (lw_at lw_m2 12 rfl) rfl
theorem q338 : (Jvm.Cond.methodLink "UnreadScript" (245 : Nat) ({ cls := "UnreadScript", name := "places", desc := "(LUnreadScript$Name;LUnreadScript$Text;I)Z" } : Jvm.MethodName)) ∈ lw_all := lw_g (lw_at lw_m2 13 rfl) rfl
theorem q339 : (Jvm.Cond.privateMethod ({ cls := "UnreadScript", name := "places", desc := "(LUnreadScript$Name;LUnreadScript$Text;I)Z" } : Jvm.MethodName)) ∈ lw_tbl := lw_at lw_m2 14 rfl
theorem q340 : (Jvm.Cond.instanceMethod ({ cls := "UnreadScript", name := "places", desc := "(LUnreadScript$Name;LUnreadScript$Text;I)Z" } : Jvm.MethodName)) ∈ lw_all := lw_g (lw_at lw_m2 15 rfl) rfl
theorem q341 : (Jvm.Cond.code ({ cls := "UnreadScript", name := "places", desc := "(LUnreadScript$Name;LUnreadScript$Text;I)Z" } : Jvm.MethodName) prog_1_method_41_code (8 : Nat) (Option.some Jvm.ClassFile.FieldType.boolean)) ∈ lw_all := lw_g (lw_at lw_m2 16 rfl) rfl
theorem q342 : (Jvm.Cond.methodLink "UnreadScript" (235 : Nat) ({ cls := "UnreadScript$Name", name := "size", desc := "()I" } : Jvm.MethodName)) ∈ lw_all := lw_g (lw_at lw_m2 17 rfl) rfl
theorem q349 : (Jvm.Cond.instanceMethod ({ cls := "UnreadScript", name := "together", desc := "(IIII)I" } : Jvm.MethodName)) ∈ lw_all := lw_g (lw_at lw_m2 24 rfl) rfl
theorem q350 : (Jvm.Cond.selects "UnreadScript" ({ cls := "UnreadScript", name := "together", desc := "(IIII)I" } : Jvm.MethodName) ({ cls := "UnreadScript", name := "together", desc := "(IIII)I" } : Jvm.MethodName)) ∈ lw_all := lw_g (lw_at lw_m2 25 rfl) rfl
theorem q351 : (Jvm.Cond.code ({ cls := "UnreadScript", name := "together", desc := "(IIII)I" } : Jvm.MethodName) prog_1_method_44_code (8 : Nat) (Option.some Jvm.ClassFile.FieldType.int)) ∈ lw_all := lw_g (lw_at lw_m2 26 rfl) rfl
theorem q353 : (Jvm.Cond.instanceMethod ({ cls := "UnreadScript", name := "word", desc := "(II)I" } : Jvm.MethodName)) ∈ lw_all := lw_g (lw_at lw_m2 28 rfl) rfl
theorem q354 : (Jvm.Cond.selects "UnreadScript" ({ cls := "UnreadScript", name := "word", desc := "(II)I" } : Jvm.MethodName) ({ cls := "UnreadScript", name := "word", desc := "(II)I" } : Jvm.MethodName)) ∈ lw_all := lw_g (lw_at lw_m2 29 rfl) rfl
theorem q355 : (Jvm.Cond.code ({ cls := "UnreadScript", name := "word", desc := "(II)I" } : Jvm.MethodName) prog_1_method_45_code (3 : Nat) (Option.some Jvm.ClassFile.FieldType.int)) ∈ lw_all := lw_g (lw_at lw_m2 30 rfl) rfl
theorem q356 : (Jvm.Cond.classLink "UnreadScript" (260 : Nat) "UnreadScript$Word") ∈ lw_all := lw_g (lw_at lw_m2 31 rfl) rfl
theorem q358 : (Jvm.Cond.methodLink "UnreadScript" (262 : Nat) ({ cls := "UnreadScript$Word", name := "<init>", desc := "(II)V" } : Jvm.MethodName)) ∈ lw_all := lw_g (lw_at lw_m2 33 rfl) rfl
theorem q364 : (Jvm.Cond.methodLink "UnreadScript" (263 : Nat) ({ cls := "UnreadScript$Word", name := "number", desc := "()I" } : Jvm.MethodName)) ∈ lw_all := lw_g (lw_at lw_m2 39 rfl) rfl
theorem q371 : (Jvm.Cond.instanceMethod ({ cls := "UnreadScript", name := "tabled", desc := "(I)I" } : Jvm.MethodName)) ∈ lw_all := lw_g (lw_at lw_m2 46 rfl) rfl
theorem q372 : (Jvm.Cond.selects "UnreadScript" ({ cls := "UnreadScript", name := "tabled", desc := "(I)I" } : Jvm.MethodName) ({ cls := "UnreadScript", name := "tabled", desc := "(I)I" } : Jvm.MethodName)) ∈ lw_all := lw_g (lw_at lw_m2 47 rfl) rfl
theorem q373 : (Jvm.Cond.code ({ cls := "UnreadScript", name := "tabled", desc := "(I)I" } : Jvm.MethodName) prog_1_method_47_code (2 : Nat) (Option.some Jvm.ClassFile.FieldType.int)) ∈ lw_all := lw_g (lw_at lw_m2 48 rfl) rfl
theorem q374 : (Jvm.Cond.constantLong "UnreadScript" (275 : Nat) (5 : Int64)) ∈ lw_all := lw_g (lw_at lw_m2 49 rfl) rfl
theorem q375 : (Jvm.Cond.methodLink "UnreadScript" (277 : Nat) ({ cls := "UnreadScript", name := "layTabled", desc := "()V" } : Jvm.MethodName)) ∈ lw_all := lw_g (lw_at lw_m2 50 rfl) rfl
theorem q376 : (Jvm.Cond.privateMethod ({ cls := "UnreadScript", name := "layTabled", desc := "()V" } : Jvm.MethodName)) ∈ lw_tbl := lw_at lw_m2 51 rfl
theorem q377 : (Jvm.Cond.instanceMethod ({ cls := "UnreadScript", name := "layTabled", desc := "()V" } : Jvm.MethodName)) ∈ lw_all := lw_g (lw_at lw_m2 52 rfl) rfl
theorem q378 : (Jvm.Cond.code ({ cls := "UnreadScript", name := "layTabled", desc := "()V" } : Jvm.MethodName) prog_1_method_46_code (5 : Nat) (Option.none : Option Jvm.ClassFile.FieldType)) ∈ lw_all := lw_g (lw_at lw_m2 53 rfl) rfl
theorem q380 : (Jvm.Cond.instanceMethod ({ cls := "UnreadScript", name := "read", desc := "(II)I" } : Jvm.MethodName)) ∈ lw_all := lw_g (lw_at lw_m2 55 rfl) rfl
theorem q381 : (Jvm.Cond.selects "UnreadScript" ({ cls := "UnreadScript", name := "read", desc := "(II)I" } : Jvm.MethodName) ({ cls := "UnreadScript", name := "read", desc := "(II)I" } : Jvm.MethodName)) ∈ lw_all := lw_g (lw_at lw_m2 56 rfl) rfl
theorem q382 : (Jvm.Cond.code ({ cls := "UnreadScript", name := "read", desc := "(II)I" } : Jvm.MethodName) prog_1_method_54_code (3 : Nat) (Option.some Jvm.ClassFile.FieldType.int)) ∈ lw_all := lw_g (lw_at lw_m2 57 rfl) rfl
theorem q383 : (Jvm.Cond.methodLink "UnreadScript" (291 : Nat) ({ cls := "UnreadScript", name := "areTexts", desc := "(I)Z" } : Jvm.MethodName)) ∈ lw_all := lw_g (lw_at lw_m2 58 rfl) rfl
theorem q384 : (Jvm.Cond.privateMethod ({ cls := "UnreadScript", name := "areTexts", desc := "(I)Z" } : Jvm.MethodName)) ∈ lw_tbl := lw_at lw_m2 59 rfl
theorem q385 : (Jvm.Cond.instanceMethod ({ cls := "UnreadScript", name := "areTexts", desc := "(I)Z" } : Jvm.MethodName)) ∈ lw_all := lw_g (lw_at lw_m2 60 rfl) rfl
theorem q386 : (Jvm.Cond.code ({ cls := "UnreadScript", name := "areTexts", desc := "(I)Z" } : Jvm.MethodName) prog_1_method_51_code (2 : Nat) (Option.some Jvm.ClassFile.FieldType.boolean)) ∈ lw_all := lw_g (lw_at lw_m2 61 rfl) rfl
theorem q387 : (Jvm.Cond.methodLink "UnreadScript" (294 : Nat) ({ cls := "UnreadScript", name := "spell", desc := "(I)V" } : Jvm.MethodName)) ∈ lw_all := lw_g (lw_at lw_m2 62 rfl) rfl
theorem q388 : (Jvm.Cond.privateMethod ({ cls := "UnreadScript", name := "spell", desc := "(I)V" } : Jvm.MethodName)) ∈ lw_tbl := lw_at lw_m2 63 rfl
theorem q389 : (Jvm.Cond.instanceMethod ({ cls := "UnreadScript", name := "spell", desc := "(I)V" } : Jvm.MethodName)) ∈ lw_all := lw_g (lw_at lw_m2 64 rfl) rfl
theorem q390 : (Jvm.Cond.code ({ cls := "UnreadScript", name := "spell", desc := "(I)V" } : Jvm.MethodName) prog_1_method_48_code (8 : Nat) (Option.none : Option Jvm.ClassFile.FieldType)) ∈ lw_all := lw_g (lw_at lw_m2 65 rfl) rfl
theorem q391 : (Jvm.Cond.methodLink "UnreadScript" (297 : Nat) ({ cls := "UnreadScript", name := "take", desc := "(I)V" } : Jvm.MethodName)) ∈ lw_all := lw_g (lw_at lw_m2 66 rfl) rfl
theorem q392 : (Jvm.Cond.privateMethod ({ cls := "UnreadScript", name := "take", desc := "(I)V" } : Jvm.MethodName)) ∈ lw_tbl := lw_at lw_m2 67 rfl
theorem q393 : (Jvm.Cond.instanceMethod ({ cls := "UnreadScript", name := "take", desc := "(I)V" } : Jvm.MethodName)) ∈ lw_all := lw_g (lw_at lw_m2 68 rfl) rfl
theorem q394 : (Jvm.Cond.code ({ cls := "UnreadScript", name := "take", desc := "(I)V" } : Jvm.MethodName) prog_1_method_52_code (3 : Nat) (Option.none : Option Jvm.ClassFile.FieldType)) ∈ lw_all := lw_g (lw_at lw_m2 69 rfl) rfl
theorem q395 : (Jvm.Cond.methodLink "UnreadScript" (300 : Nat) ({ cls := "UnreadScript", name := "reads", desc := "()I" } : Jvm.MethodName)) ∈ lw_all := lw_g (lw_at lw_m2 70 rfl) rfl
theorem q396 : (Jvm.Cond.privateMethod ({ cls := "UnreadScript", name := "reads", desc := "()I" } : Jvm.MethodName)) ∈ lw_tbl := lw_at lw_m2 71 rfl
theorem q397 : (Jvm.Cond.instanceMethod ({ cls := "UnreadScript", name := "reads", desc := "()I" } : Jvm.MethodName)) ∈ lw_all := lw_g (lw_at lw_m2 72 rfl) rfl
theorem q398 : (Jvm.Cond.code ({ cls := "UnreadScript", name := "reads", desc := "()I" } : Jvm.MethodName) prog_1_method_50_code (3 : Nat) (Option.some Jvm.ClassFile.FieldType.int)) ∈ lw_all := lw_g (lw_at lw_m2 73 rfl) rfl
theorem q399 : (Jvm.Cond.methodLink "UnreadScript" (287 : Nat) ({ cls := "UnreadScript", name := "isWord", desc := "([I)Z" } : Jvm.MethodName)) ∈ lw_all := lw_g (lw_at lw_m2 74 rfl) rfl
theorem q400 : (Jvm.Cond.privateMethod ({ cls := "UnreadScript", name := "isWord", desc := "([I)Z" } : Jvm.MethodName)) ∈ lw_tbl := lw_at lw_m2 75 rfl
theorem q401 : (Jvm.Cond.instanceMethod ({ cls := "UnreadScript", name := "isWord", desc := "([I)Z" } : Jvm.MethodName)) ∈ lw_all := lw_g (lw_at lw_m2 76 rfl) rfl
theorem q402 : (Jvm.Cond.code ({ cls := "UnreadScript", name := "isWord", desc := "([I)Z" } : Jvm.MethodName) prog_1_method_49_code (7 : Nat) (Option.some Jvm.ClassFile.FieldType.boolean)) ∈ lw_all := lw_g (lw_at lw_m2 77 rfl) rfl
theorem q404 : (Jvm.Cond.instanceMethod ({ cls := "UnreadScript", name := "best", desc := "(II)I" } : Jvm.MethodName)) ∈ lw_all := lw_g (lw_at lw_m2 79 rfl) rfl
theorem q405 : (Jvm.Cond.selects "UnreadScript" ({ cls := "UnreadScript", name := "best", desc := "(II)I" } : Jvm.MethodName) ({ cls := "UnreadScript", name := "best", desc := "(II)I" } : Jvm.MethodName)) ∈ lw_all := lw_g (lw_at lw_m2 80 rfl) rfl
theorem q406 : (Jvm.Cond.code ({ cls := "UnreadScript", name := "best", desc := "(II)I" } : Jvm.MethodName) prog_1_method_56_code (3 : Nat) (Option.some Jvm.ClassFile.FieldType.int)) ∈ lw_all := lw_g (lw_at lw_m2 81 rfl) rfl
theorem q407 : (Jvm.Cond.methodLink "UnreadScript" (313 : Nat) ({ cls := "UnreadScript", name := "layBest", desc := "(I)V" } : Jvm.MethodName)) ∈ lw_all := lw_g (lw_at lw_m2 82 rfl) rfl
theorem q408 : (Jvm.Cond.privateMethod ({ cls := "UnreadScript", name := "layBest", desc := "(I)V" } : Jvm.MethodName)) ∈ lw_tbl := lw_at lw_m2 83 rfl
theorem q409 : (Jvm.Cond.instanceMethod ({ cls := "UnreadScript", name := "layBest", desc := "(I)V" } : Jvm.MethodName)) ∈ lw_all := lw_g (lw_at lw_m2 84 rfl) rfl
theorem q410 : (Jvm.Cond.code ({ cls := "UnreadScript", name := "layBest", desc := "(I)V" } : Jvm.MethodName) prog_1_method_55_code (4 : Nat) (Option.none : Option Jvm.ClassFile.FieldType)) ∈ lw_all := lw_g (lw_at lw_m2 85 rfl) rfl
theorem q411 : (Jvm.Cond.methodLink "UnreadScript" (309 : Nat) ({ cls := "UnreadScript", name := "number", desc := "()I" } : Jvm.MethodName)) ∈ lw_all := lw_g (lw_at lw_m2 86 rfl) rfl
theorem q412 : (Jvm.Cond.privateMethod ({ cls := "UnreadScript", name := "number", desc := "()I" } : Jvm.MethodName)) ∈ lw_tbl := lw_at lw_m2 87 rfl
theorem q413 : (Jvm.Cond.instanceMethod ({ cls := "UnreadScript", name := "number", desc := "()I" } : Jvm.MethodName)) ∈ lw_all := lw_g (lw_at lw_m2 88 rfl) rfl
theorem q414 : (Jvm.Cond.code ({ cls := "UnreadScript", name := "number", desc := "()I" } : Jvm.MethodName) prog_1_method_53_code (3 : Nat) (Option.some Jvm.ClassFile.FieldType.int)) ∈ lw_all := lw_g (lw_at lw_m2 89 rfl) rfl
theorem q416 : (Jvm.Cond.instanceMethod ({ cls := "UnreadScript", name := "judge", desc := "(III)I" } : Jvm.MethodName)) ∈ lw_all := lw_g (lw_at lw_m2 91 rfl) rfl
theorem q417 : (Jvm.Cond.selects "UnreadScript" ({ cls := "UnreadScript", name := "judge", desc := "(III)I" } : Jvm.MethodName) ({ cls := "UnreadScript", name := "judge", desc := "(III)I" } : Jvm.MethodName)) ∈ lw_all := lw_g (lw_at lw_m2 92 rfl) rfl
theorem q418 : (Jvm.Cond.code ({ cls := "UnreadScript", name := "judge", desc := "(III)I" } : Jvm.MethodName) prog_1_method_58_code (5 : Nat) (Option.some Jvm.ClassFile.FieldType.int)) ∈ lw_all := lw_g (lw_at lw_m2 93 rfl) rfl
theorem q419 : (Jvm.Cond.methodLink "UnreadScript" (325 : Nat) ({ cls := "UnreadScript", name := "shuffle", desc := "(IIII)V" } : Jvm.MethodName)) ∈ lw_all := lw_g (lw_at lw_m2 94 rfl) rfl
theorem q420 : (Jvm.Cond.privateMethod ({ cls := "UnreadScript", name := "shuffle", desc := "(IIII)V" } : Jvm.MethodName)) ∈ lw_tbl := lw_at lw_m2 95 rfl
theorem q421 : (Jvm.Cond.instanceMethod ({ cls := "UnreadScript", name := "shuffle", desc := "(IIII)V" } : Jvm.MethodName)) ∈ lw_all := lw_g (lw_at lw_m2 96 rfl) rfl
theorem q422 : (Jvm.Cond.code ({ cls := "UnreadScript", name := "shuffle", desc := "(IIII)V" } : Jvm.MethodName) prog_1_method_57_code (6 : Nat) (Option.none : Option Jvm.ClassFile.FieldType)) ∈ lw_all := lw_g (lw_at lw_m2 97 rfl) rfl
theorem q424 : (Jvm.Cond.instanceMethod ({ cls := "UnreadScript", name := "feed", desc := "(J)I" } : Jvm.MethodName)) ∈ lw_all := lw_g (lw_at lw_m2 99 rfl) rfl
theorem q425 : (Jvm.Cond.selects "UnreadScript" ({ cls := "UnreadScript", name := "feed", desc := "(J)I" } : Jvm.MethodName) ({ cls := "UnreadScript", name := "feed", desc := "(J)I" } : Jvm.MethodName)) ∈ lw_all := lw_g (lw_at lw_m2 100 rfl) rfl
theorem q426 : (Jvm.Cond.code ({ cls := "UnreadScript", name := "feed", desc := "(J)I" } : Jvm.MethodName) prog_1_method_59_code (4 : Nat) (Option.some Jvm.ClassFile.FieldType.int)) ∈ lw_all := lw_g (lw_at lw_m2 101 rfl) rfl
theorem q428 : (Jvm.Cond.instanceMethod ({ cls := "UnreadScript", name := "end", desc := "(I)I" } : Jvm.MethodName)) ∈ lw_all := lw_g (lw_at lw_m2 103 rfl) rfl
theorem q429 : (Jvm.Cond.selects "UnreadScript" ({ cls := "UnreadScript", name := "end", desc := "(I)I" } : Jvm.MethodName) ({ cls := "UnreadScript", name := "end", desc := "(I)I" } : Jvm.MethodName)) ∈ lw_all := lw_g (lw_at lw_m2 104 rfl) rfl
theorem q430 : (Jvm.Cond.code ({ cls := "UnreadScript", name := "end", desc := "(I)I" } : Jvm.MethodName) prog_1_method_60_code (3 : Nat) (Option.some Jvm.ClassFile.FieldType.int)) ∈ lw_all := lw_g (lw_at lw_m2 105 rfl) rfl
theorem q432 : (Jvm.Cond.instanceMethod ({ cls := "UnreadScript", name := "claims", desc := "()I" } : Jvm.MethodName)) ∈ lw_all := lw_g (lw_at lw_m2 107 rfl) rfl
theorem q433 : (Jvm.Cond.selects "UnreadScript" ({ cls := "UnreadScript", name := "claims", desc := "()I" } : Jvm.MethodName) ({ cls := "UnreadScript", name := "claims", desc := "()I" } : Jvm.MethodName)) ∈ lw_all := lw_g (lw_at lw_m2 108 rfl) rfl
theorem q434 : (Jvm.Cond.codeWith ({ cls := "UnreadScript", name := "claims", desc := "()I" } : Jvm.MethodName) prog_1_method_61_code (4 : Nat) (Option.some Jvm.ClassFile.FieldType.int) [((31 : Nat), (54 : Nat), (55 : Nat), (350 : Nat))]) ∈ lw_all := lw_g (lw_at lw_m2 109 rfl) rfl
theorem q435 : (Jvm.Cond.classLink "UnreadScript" (350 : Nat) "UnreadScript$Fault") ∈ lw_all := lw_g (lw_at lw_m2 110 rfl) rfl
theorem q436 : (Jvm.Cond.classLink "UnreadScript" (339 : Nat) "UnreadScript$Reader") ∈ lw_all := lw_g (lw_at lw_m2 111 rfl) rfl
theorem q438 : (Jvm.Cond.methodLink "UnreadScript" (341 : Nat) ({ cls := "UnreadScript$Reader", name := "<init>", desc := "(LUnreadScript;[B)V" } : Jvm.MethodName)) ∈ lw_all := lw_g (lw_at lw_m2 113 rfl) rfl
theorem q454 : (Jvm.Cond.laysStatic "UnreadScript" "KINDS" "[Ljava/lang/String;") ∈ lw_tbl := lw_at lw_m2 129 rfl
theorem q580 : (Jvm.Cond.fieldLinkNest "UnreadScript" (352 : Nat) "UnreadScript$Fault" "code" "I" "UnreadScript") ∈ lw_tbl := lw_at lw_m3 15 rfl
theorem q582 : (Jvm.Cond.fieldLinkNest "UnreadScript" (355 : Nat) "UnreadScript$Fault" "place" "I" "UnreadScript") ∈ lw_tbl := lw_at lw_m3 17 rfl
theorem q622 : (Jvm.Cond.methodLink "UnreadScript" (344 : Nat) ({ cls := "UnreadScript$Reader", name := "all", desc := "()V" } : Jvm.MethodName)) ∈ lw_all := lw_g (lw_at lw_m3 57 rfl) rfl
theorem q638 : (Jvm.Cond.fieldLinkNest "UnreadScript" (376 : Nat) "UnreadScript$Claim" "kind" "I" "UnreadScript") ∈ lw_tbl := lw_at lw_m3 73 rfl
theorem q641 : (Jvm.Cond.fieldLinkNest "UnreadScript" (379 : Nat) "UnreadScript$Claim" "number" "I" "UnreadScript") ∈ lw_tbl := lw_at lw_m3 76 rfl
theorem q643 : (Jvm.Cond.fieldLinkNest "UnreadScript" (381 : Nat) "UnreadScript$Claim" "came" "I" "UnreadScript") ∈ lw_tbl := lw_at lw_m3 78 rfl
theorem q645 : (Jvm.Cond.fieldLinkNest "UnreadScript" (367 : Nat) "UnreadScript$Claim" "on" "I" "UnreadScript") ∈ lw_tbl := lw_at lw_m3 80 rfl
theorem q648 : (Jvm.Cond.fieldLinkNest "UnreadScript" (362 : Nat) "UnreadScript$Claim" "gone" "I" "UnreadScript") ∈ lw_tbl := lw_at lw_m3 83 rfl
theorem q669 : (Jvm.Cond.instanceMethod ({ cls := "UnreadScript", name := "fault", desc := "()I" } : Jvm.MethodName)) ∈ lw_all := lw_g (lw_at lw_m3 104 rfl) rfl
theorem q670 : (Jvm.Cond.selects "UnreadScript" ({ cls := "UnreadScript", name := "fault", desc := "()I" } : Jvm.MethodName) ({ cls := "UnreadScript", name := "fault", desc := "()I" } : Jvm.MethodName)) ∈ lw_all := lw_g (lw_at lw_m3 105 rfl) rfl
theorem q671 : (Jvm.Cond.code ({ cls := "UnreadScript", name := "fault", desc := "()I" } : Jvm.MethodName) prog_1_method_62_code (1 : Nat) (Option.some Jvm.ClassFile.FieldType.int)) ∈ lw_all := lw_g (lw_at lw_m3 106 rfl) rfl
theorem q673 : (Jvm.Cond.instanceMethod ({ cls := "UnreadScript", name := "claim", desc := "(II)I" } : Jvm.MethodName)) ∈ lw_all := lw_g (lw_at lw_m3 108 rfl) rfl
theorem q674 : (Jvm.Cond.selects "UnreadScript" ({ cls := "UnreadScript", name := "claim", desc := "(II)I" } : Jvm.MethodName) ({ cls := "UnreadScript", name := "claim", desc := "(II)I" } : Jvm.MethodName)) ∈ lw_all := lw_g (lw_at lw_m3 109 rfl) rfl
theorem q675 : (Jvm.Cond.code ({ cls := "UnreadScript", name := "claim", desc := "(II)I" } : Jvm.MethodName) prog_1_method_66_code (4 : Nat) (Option.some Jvm.ClassFile.FieldType.int)) ∈ lw_all := lw_g (lw_at lw_m3 110 rfl) rfl
theorem q676 : (Jvm.Cond.methodLink "UnreadScript" (373 : Nat) ({ cls := "UnreadScript", name := "isClaim", desc := "(I)Z" } : Jvm.MethodName)) ∈ lw_all := lw_g (lw_at lw_m3 111 rfl) rfl
theorem q677 : (Jvm.Cond.privateMethod ({ cls := "UnreadScript", name := "isClaim", desc := "(I)Z" } : Jvm.MethodName)) ∈ lw_tbl := lw_at lw_m3 112 rfl
theorem q678 : (Jvm.Cond.instanceMethod ({ cls := "UnreadScript", name := "isClaim", desc := "(I)Z" } : Jvm.MethodName)) ∈ lw_all := lw_g (lw_at lw_m3 113 rfl) rfl
theorem q679 : (Jvm.Cond.code ({ cls := "UnreadScript", name := "isClaim", desc := "(I)Z" } : Jvm.MethodName) prog_1_method_63_code (2 : Nat) (Option.some Jvm.ClassFile.FieldType.boolean)) ∈ lw_all := lw_g (lw_at lw_m3 114 rfl) rfl
theorem q680 : (Jvm.Cond.methodLink "UnreadScript" (384 : Nat) ({ cls := "UnreadScript", name := "hung", desc := "(I)I" } : Jvm.MethodName)) ∈ lw_all := lw_g (lw_at lw_m3 115 rfl) rfl
theorem q681 : (Jvm.Cond.privateMethod ({ cls := "UnreadScript", name := "hung", desc := "(I)I" } : Jvm.MethodName)) ∈ lw_tbl := lw_at lw_m3 116 rfl
theorem q682 : (Jvm.Cond.instanceMethod ({ cls := "UnreadScript", name := "hung", desc := "(I)I" } : Jvm.MethodName)) ∈ lw_all := lw_g (lw_at lw_m3 117 rfl) rfl
theorem q683 : (Jvm.Cond.code ({ cls := "UnreadScript", name := "hung", desc := "(I)I" } : Jvm.MethodName) prog_1_method_64_code (4 : Nat) (Option.some Jvm.ClassFile.FieldType.int)) ∈ lw_all := lw_g (lw_at lw_m3 118 rfl) rfl
theorem q684 : (Jvm.Cond.methodLink "UnreadScript" (370 : Nat) ({ cls := "UnreadScript", name := "deep", desc := "(I)I" } : Jvm.MethodName)) ∈ lw_all := lw_g (lw_at lw_m3 119 rfl) rfl
theorem q685 : (Jvm.Cond.privateMethod ({ cls := "UnreadScript", name := "deep", desc := "(I)I" } : Jvm.MethodName)) ∈ lw_tbl := lw_at lw_m3 120 rfl
theorem q686 : (Jvm.Cond.instanceMethod ({ cls := "UnreadScript", name := "deep", desc := "(I)I" } : Jvm.MethodName)) ∈ lw_all := lw_g (lw_at lw_m3 121 rfl) rfl
theorem q687 : (Jvm.Cond.code ({ cls := "UnreadScript", name := "deep", desc := "(I)I" } : Jvm.MethodName) prog_1_method_65_code (4 : Nat) (Option.some Jvm.ClassFile.FieldType.int)) ∈ lw_all := lw_g (lw_at lw_m3 122 rfl) rfl
theorem q689 : (Jvm.Cond.instanceMethod ({ cls := "UnreadScript", name := "withdraw", desc := "(I)I" } : Jvm.MethodName)) ∈ lw_all := lw_g (lw_at lw_m3 124 rfl) rfl
theorem q690 : (Jvm.Cond.selects "UnreadScript" ({ cls := "UnreadScript", name := "withdraw", desc := "(I)I" } : Jvm.MethodName) ({ cls := "UnreadScript", name := "withdraw", desc := "(I)I" } : Jvm.MethodName)) ∈ lw_all := lw_g (lw_at lw_m3 125 rfl) rfl
theorem q691 : (Jvm.Cond.code ({ cls := "UnreadScript", name := "withdraw", desc := "(I)I" } : Jvm.MethodName) prog_1_method_67_code (4 : Nat) (Option.some Jvm.ClassFile.FieldType.int)) ∈ lw_all := lw_g (lw_at lw_m3 126 rfl) rfl
theorem q693 : (Jvm.Cond.instanceMethod ({ cls := "UnreadScript", name := "day", desc := "(I)I" } : Jvm.MethodName)) ∈ lw_all := lw_g (lw_at lw_m3 128 rfl) rfl
theorem q694 : (Jvm.Cond.selects "UnreadScript" ({ cls := "UnreadScript", name := "day", desc := "(I)I" } : Jvm.MethodName) ({ cls := "UnreadScript", name := "day", desc := "(I)I" } : Jvm.MethodName)) ∈ lw_all := lw_g (lw_at lw_m3 129 rfl) rfl
theorem q695 : (Jvm.Cond.code ({ cls := "UnreadScript", name := "day", desc := "(I)I" } : Jvm.MethodName) prog_1_method_68_code (3 : Nat) (Option.some Jvm.ClassFile.FieldType.int)) ∈ lw_all := lw_g (lw_at lw_m3 130 rfl) rfl
theorem q696 : (Jvm.Cond.constantLong "UnreadScript" (390 : Nat) (99 : Int64)) ∈ lw_all := lw_g (lw_at lw_m3 131 rfl) rfl
theorem q698 : (Jvm.Cond.instanceMethod ({ cls := "UnreadScript", name := "known", desc := "(II)I" } : Jvm.MethodName)) ∈ lw_all := lw_g (lw_at lw_m3 133 rfl) rfl
theorem q699 : (Jvm.Cond.selects "UnreadScript" ({ cls := "UnreadScript", name := "known", desc := "(II)I" } : Jvm.MethodName) ({ cls := "UnreadScript", name := "known", desc := "(II)I" } : Jvm.MethodName)) ∈ lw_all := lw_g (lw_at lw_m3 134 rfl) rfl
theorem q700 : (Jvm.Cond.code ({ cls := "UnreadScript", name := "known", desc := "(II)I" } : Jvm.MethodName) prog_1_method_69_code (7 : Nat) (Option.some Jvm.ClassFile.FieldType.int)) ∈ lw_all := lw_g (lw_at lw_m3 135 rfl) rfl
theorem q701 : (Jvm.Cond.methodLink "UnreadScript" (392 : Nat) ({ cls := "UnreadScript$Claim", name := "isKnown", desc := "(I)Z" } : Jvm.MethodName)) ∈ lw_all := lw_g (lw_at lw_m3 136 rfl) rfl
theorem q707 : (Jvm.Cond.instanceMethod ({ cls := "UnreadScript", name := "<init>", desc := "()V" } : Jvm.MethodName)) ∈ lw_all := lw_g (lw_at lw_m3 142 rfl) rfl
theorem q708 : (Jvm.Cond.code ({ cls := "UnreadScript", name := "<init>", desc := "()V" } : Jvm.MethodName) prog_1_method_70_code (1 : Nat) (Option.none : Option Jvm.ClassFile.FieldType)) ∈ lw_all := lw_g (lw_at lw_m3 143 rfl) rfl
theorem q709 : (Jvm.Cond.methodLink "UnreadScript" (395 : Nat) ({ cls := "java/lang/Object", name := "<init>", desc := "()V" } : Jvm.MethodName)) ∈ lw_all := lw_g (lw_at lw_m3 144 rfl) rfl
theorem q710 : (Jvm.Cond.classLink "UnreadScript" (399 : Nat) "[[I") ∈ lw_all := lw_g (lw_at lw_m3 145 rfl) rfl
theorem q712 : (Jvm.Cond.classLink "UnreadScript" (54 : Nat) "UnreadScript$Text") ∈ lw_all := lw_g (lw_at lw_m3 147 rfl) rfl
theorem q716 : (Jvm.Cond.classLink "UnreadScript" (400 : Nat) "[[Z") ∈ lw_all := lw_g (lw_at lw_m3 151 rfl) rfl
theorem q718 : (Jvm.Cond.classLink "UnreadScript" (401 : Nat) "[I") ∈ lw_all := lw_g (lw_at lw_m3 153 rfl) rfl
theorem q719 : (Jvm.Cond.classLink "UnreadScript" (363 : Nat) "UnreadScript$Claim") ∈ lw_all := lw_g (lw_at lw_m3 154 rfl) rfl
theorem q721 : (Jvm.Cond.classLink "UnreadScript" (402 : Nat) "UnreadScript$Sheet") ∈ lw_all := lw_g (lw_at lw_m3 156 rfl) rfl
theorem q724 : (Jvm.Cond.methodLinkNest "UnreadScript" (404 : Nat) ({ cls := "UnreadScript$Sheet", name := "<init>", desc := "()V" } : Jvm.MethodName) "UnreadScript") ∈ lw_tbl := lw_at lw_m3 159 rfl
theorem q728 : (Jvm.Cond.fieldLinkNest "UnreadScript" (413 : Nat) "UnreadScript$Sheet" "row" "Ljava/lang/Object;" "UnreadScript") ∈ lw_tbl := lw_at lw_m3 163 rfl
theorem q729 : (Jvm.Cond.fieldLinkNest "UnreadScript" (417 : Nat) "UnreadScript$Sheet" "size" "I" "UnreadScript") ∈ lw_tbl := lw_at lw_m3 164 rfl
theorem q736 : (Jvm.Cond.fieldLink "UnreadScript" (13 : Nat) "UnreadScript" "forms" "[I") ∈ lw_all := lw_g (lw_at lw_m3 171 rfl) rfl
theorem q737 : (Jvm.Cond.fieldLink "UnreadScript" (9 : Nat) "UnreadScript" "formMany" "I") ∈ lw_all := lw_g (lw_at lw_m3 172 rfl) rfl
theorem q738 : (Jvm.Cond.fieldLink "UnreadScript" (19 : Nat) "UnreadScript" "likeness" "I") ∈ lw_all := lw_g (lw_at lw_m3 173 rfl) rfl
theorem q739 : (Jvm.Cond.fieldLink "UnreadScript" (22 : Nat) "UnreadScript" "signOf" "[I") ∈ lw_all := lw_g (lw_at lw_m3 174 rfl) rfl
theorem q740 : (Jvm.Cond.fieldLink "UnreadScript" (145 : Nat) "UnreadScript" "told" "[[I") ∈ lw_all := lw_g (lw_at lw_m3 175 rfl) rfl
theorem q741 : (Jvm.Cond.fieldLink "UnreadScript" (61 : Nat) "UnreadScript" "texts" "[LUnreadScript$Text;") ∈ lw_all := lw_g (lw_at lw_m3 176 rfl) rfl
theorem q742 : (Jvm.Cond.fieldLink "UnreadScript" (50 : Nat) "UnreadScript" "textMany" "I") ∈ lw_all := lw_g (lw_at lw_m3 177 rfl) rfl
theorem q743 : (Jvm.Cond.fieldLink "UnreadScript" (101 : Nat) "UnreadScript" "begun" "[I") ∈ lw_all := lw_g (lw_at lw_m3 178 rfl) rfl
theorem q744 : (Jvm.Cond.fieldLink "UnreadScript" (110 : Nat) "UnreadScript" "ended" "[I") ∈ lw_all := lw_g (lw_at lw_m3 179 rfl) rfl
theorem q745 : (Jvm.Cond.fieldLink "UnreadScript" (116 : Nat) "UnreadScript" "wordText" "[I") ∈ lw_all := lw_g (lw_at lw_m3 180 rfl) rfl
theorem q746 : (Jvm.Cond.fieldLink "UnreadScript" (122 : Nat) "UnreadScript" "wordFrom" "[I") ∈ lw_all := lw_g (lw_at lw_m3 181 rfl) rfl
theorem q747 : (Jvm.Cond.fieldLink "UnreadScript" (119 : Nat) "UnreadScript" "wordTo" "[I") ∈ lw_all := lw_g (lw_at lw_m3 182 rfl) rfl
theorem q748 : (Jvm.Cond.fieldLink "UnreadScript" (125 : Nat) "UnreadScript" "wordMany" "I") ∈ lw_all := lw_g (lw_at lw_m3 183 rfl) rfl
theorem q749 : (Jvm.Cond.fieldLink "UnreadScript" (135 : Nat) "UnreadScript" "akin" "[[I") ∈ lw_all := lw_g (lw_at lw_m3 184 rfl) rfl
theorem q750 : (Jvm.Cond.fieldLink "UnreadScript" (139 : Nat) "UnreadScript" "apart" "[[I") ∈ lw_all := lw_g (lw_at lw_m3 185 rfl) rfl
theorem q751 : (Jvm.Cond.fieldLink "UnreadScript" (156 : Nat) "UnreadScript" "gridSigns" "[I") ∈ lw_all := lw_g (lw_at lw_m3 186 rfl) rfl
theorem q752 : (Jvm.Cond.fieldLink "UnreadScript" (153 : Nat) "UnreadScript" "gridMany" "I") ∈ lw_all := lw_g (lw_at lw_m3 187 rfl) rfl
theorem q753 : (Jvm.Cond.fieldLink "UnreadScript" (159 : Nat) "UnreadScript" "rowOf" "[I") ∈ lw_all := lw_g (lw_at lw_m3 188 rfl) rfl
theorem q754 : (Jvm.Cond.fieldLink "UnreadScript" (166 : Nat) "UnreadScript" "bestRow" "[I") ∈ lw_all := lw_g (lw_at lw_m3 189 rfl) rfl
theorem q755 : (Jvm.Cond.fieldLink "UnreadScript" (191 : Nat) "UnreadScript" "items" "[I") ∈ lw_all := lw_g (lw_at lw_m3 190 rfl) rfl
theorem q756 : (Jvm.Cond.fieldLink "UnreadScript" (194 : Nat) "UnreadScript" "totals" "[I") ∈ lw_all := lw_g (lw_at lw_m3 191 rfl) rfl
theorem q757 : (Jvm.Cond.fieldLink "UnreadScript" (188 : Nat) "UnreadScript" "accountMany" "I") ∈ lw_all := lw_g (lw_at lw_m3 192 rfl) rfl
theorem q758 : (Jvm.Cond.fieldLink "UnreadScript" (197 : Nat) "UnreadScript" "picks" "[I") ∈ lw_all := lw_g (lw_at lw_m3 193 rfl) rfl
theorem q759 : (Jvm.Cond.fieldLink "UnreadScript" (219 : Nat) "UnreadScript" "names" "[LUnreadScript$Name;") ∈ lw_all := lw_g (lw_at lw_m3 194 rfl) rfl
theorem q760 : (Jvm.Cond.fieldLink "UnreadScript" (216 : Nat) "UnreadScript" "nameMany" "I") ∈ lw_all := lw_g (lw_at lw_m3 195 rfl) rfl
theorem q761 : (Jvm.Cond.fieldLink "UnreadScript" (256 : Nat) "UnreadScript" "words" "[LUnreadScript$Word;") ∈ lw_all := lw_g (lw_at lw_m3 196 rfl) rfl
theorem q762 : (Jvm.Cond.fieldLink "UnreadScript" (253 : Nat) "UnreadScript" "tongueMany" "I") ∈ lw_all := lw_g (lw_at lw_m3 197 rfl) rfl
theorem q763 : (Jvm.Cond.fieldLink "UnreadScript" (249 : Nat) "UnreadScript" "isSpoken" "[[Z") ∈ lw_all := lw_g (lw_at lw_m3 198 rfl) rfl
theorem q764 : (Jvm.Cond.fieldLink "UnreadScript" (229 : Nat) "UnreadScript" "signFor" "[I") ∈ lw_all := lw_g (lw_at lw_m3 199 rfl) rfl
theorem q765 : (Jvm.Cond.fieldLink "UnreadScript" (232 : Nat) "UnreadScript" "soundFor" "[I") ∈ lw_all := lw_g (lw_at lw_m3 200 rfl) rfl
theorem q766 : (Jvm.Cond.fieldLink "UnreadScript" (272 : Nat) "UnreadScript" "tabled" "[I") ∈ lw_all := lw_g (lw_at lw_m3 201 rfl) rfl
theorem q767 : (Jvm.Cond.fieldLink "UnreadScript" (269 : Nat) "UnreadScript" "tabledMany" "I") ∈ lw_all := lw_g (lw_at lw_m3 202 rfl) rfl
theorem q768 : (Jvm.Cond.fieldLink "UnreadScript" (266 : Nat) "UnreadScript" "placeOf" "[I") ∈ lw_all := lw_g (lw_at lw_m3 203 rfl) rfl
theorem q769 : (Jvm.Cond.fieldLink "UnreadScript" (286 : Nat) "UnreadScript" "sounds" "[I") ∈ lw_all := lw_g (lw_at lw_m3 204 rfl) rfl
theorem q770 : (Jvm.Cond.fieldLink "UnreadScript" (283 : Nat) "UnreadScript" "spelt" "[[I") ∈ lw_all := lw_g (lw_at lw_m3 205 rfl) rfl
theorem q771 : (Jvm.Cond.fieldLink "UnreadScript" (280 : Nat) "UnreadScript" "speltMany" "I") ∈ lw_all := lw_g (lw_at lw_m3 206 rfl) rfl
theorem q772 : (Jvm.Cond.fieldLink "UnreadScript" (310 : Nat) "UnreadScript" "bestTable" "I") ∈ lw_all := lw_g (lw_at lw_m3 207 rfl) rfl
theorem q773 : (Jvm.Cond.fieldLink "UnreadScript" (303 : Nat) "UnreadScript" "bestRead" "I") ∈ lw_all := lw_g (lw_at lw_m3 208 rfl) rfl
theorem q774 : (Jvm.Cond.fieldLink "UnreadScript" (306 : Nat) "UnreadScript" "bestMany" "I") ∈ lw_all := lw_g (lw_at lw_m3 209 rfl) rfl
theorem q775 : (Jvm.Cond.fieldLink "UnreadScript" (316 : Nat) "UnreadScript" "order" "[I") ∈ lw_all := lw_g (lw_at lw_m3 210 rfl) rfl
theorem q776 : (Jvm.Cond.fieldLink "UnreadScript" (319 : Nat) "UnreadScript" "shuffles" "I") ∈ lw_all := lw_g (lw_at lw_m3 211 rfl) rfl
theorem q777 : (Jvm.Cond.fieldLink "UnreadScript" (322 : Nat) "UnreadScript" "asGood" "I") ∈ lw_all := lw_g (lw_at lw_m3 212 rfl) rfl
theorem q779 : (Jvm.Cond.fieldLink "UnreadScript" (358 : Nat) "UnreadScript" "claims" "[LUnreadScript$Claim;") ∈ lw_all := lw_g (lw_at lw_m3 214 rfl) rfl
theorem q781 : (Jvm.Cond.fieldLink "UnreadScript" (336 : Nat) "UnreadScript" "claimMany" "I") ∈ lw_all := lw_g (lw_at lw_m3 216 rfl) rfl
theorem q783 : (Jvm.Cond.fieldLink "UnreadScript" (387 : Nat) "UnreadScript" "today" "I") ∈ lw_all := lw_g (lw_at lw_m3 218 rfl) rfl
theorem q784 : (Jvm.Cond.fieldLink "UnreadScript" (332 : Nat) "UnreadScript" "tape" "[B") ∈ lw_all := lw_g (lw_at lw_m3 219 rfl) rfl
theorem q785 : (Jvm.Cond.fieldLink "UnreadScript" (329 : Nat) "UnreadScript" "taped" "I") ∈ lw_all := lw_g (lw_at lw_m3 220 rfl) rfl
theorem q786 : (Jvm.Cond.fieldLink "UnreadScript" (347 : Nat) "UnreadScript" "fault" "I") ∈ lw_all := lw_g (lw_at lw_m3 221 rfl) rfl
theorem q787 : (Jvm.Cond.fieldLink "UnreadScript" (405 : Nat) "UnreadScript" "sheets" "[LUnreadScript$Sheet;") ∈ lw_all := lw_g (lw_at lw_m3 222 rfl) rfl
theorem q788 : (Jvm.Cond.laysFinal "UnreadScript" "UnreadScript" "forms" "[I") ∈ lw_all := lw_g (lw_at lw_m3 223 rfl) rfl
theorem q789 : (Jvm.Cond.soleField "UnreadScript" "forms") ∈ lw_all := lw_g (lw_at lw_m3 224 rfl) rfl
theorem q790 : (Jvm.Cond.lays "UnreadScript" "UnreadScript" "formMany" "I") ∈ lw_all := lw_g (lw_at lw_m3 225 rfl) rfl
theorem q791 : (Jvm.Cond.soleField "UnreadScript" "formMany") ∈ lw_all := lw_g (lw_at lw_m3 226 rfl) rfl
theorem q792 : (Jvm.Cond.lays "UnreadScript" "UnreadScript" "likeness" "I") ∈ lw_all := lw_g (lw_at lw_m3 227 rfl) rfl
theorem q793 : (Jvm.Cond.soleField "UnreadScript" "likeness") ∈ lw_all := lw_g (lw_at lw_m3 228 rfl) rfl
theorem q794 : (Jvm.Cond.laysFinal "UnreadScript" "UnreadScript" "signOf" "[I") ∈ lw_all := lw_g (lw_at lw_m3 229 rfl) rfl
theorem q795 : (Jvm.Cond.soleField "UnreadScript" "signOf") ∈ lw_all := lw_g (lw_at lw_m3 230 rfl) rfl
theorem q796 : (Jvm.Cond.laysFinal "UnreadScript" "UnreadScript" "told" "[[I") ∈ lw_all := lw_g (lw_at lw_m3 231 rfl) rfl
theorem q797 : (Jvm.Cond.soleField "UnreadScript" "told") ∈ lw_all := lw_g (lw_at lw_m3 232 rfl) rfl
theorem q798 : (Jvm.Cond.laysFinal "UnreadScript" "UnreadScript" "texts" "[LUnreadScript$Text;") ∈ lw_all := lw_g (lw_at lw_m3 233 rfl) rfl
theorem q799 : (Jvm.Cond.soleField "UnreadScript" "texts") ∈ lw_all := lw_g (lw_at lw_m3 234 rfl) rfl
theorem q800 : (Jvm.Cond.lays "UnreadScript" "UnreadScript" "textMany" "I") ∈ lw_all := lw_g (lw_at lw_m3 235 rfl) rfl
theorem q801 : (Jvm.Cond.soleField "UnreadScript" "textMany") ∈ lw_all := lw_g (lw_at lw_m3 236 rfl) rfl
theorem q802 : (Jvm.Cond.laysFinal "UnreadScript" "UnreadScript" "begun" "[I") ∈ lw_all := lw_g (lw_at lw_m3 237 rfl) rfl
theorem q803 : (Jvm.Cond.soleField "UnreadScript" "begun") ∈ lw_all := lw_g (lw_at lw_m3 238 rfl) rfl
theorem q804 : (Jvm.Cond.laysFinal "UnreadScript" "UnreadScript" "ended" "[I") ∈ lw_all := lw_g (lw_at lw_m3 239 rfl) rfl
theorem q805 : (Jvm.Cond.soleField "UnreadScript" "ended") ∈ lw_all := lw_g (lw_at lw_m4 0 rfl) rfl
theorem q806 : (Jvm.Cond.laysFinal "UnreadScript" "UnreadScript" "wordText" "[I") ∈ lw_all := lw_g (lw_at lw_m4 1 rfl) rfl
theorem q807 : (Jvm.Cond.soleField "UnreadScript" "wordText") ∈ lw_all := lw_g (lw_at lw_m4 2 rfl) rfl
theorem q808 : (Jvm.Cond.laysFinal "UnreadScript" "UnreadScript" "wordFrom" "[I") ∈ lw_all := lw_g (lw_at lw_m4 3 rfl) rfl
theorem q809 : (Jvm.Cond.soleField "UnreadScript" "wordFrom") ∈ lw_all := lw_g (lw_at lw_m4 4 rfl) rfl
theorem q810 : (Jvm.Cond.laysFinal "UnreadScript" "UnreadScript" "wordTo" "[I") ∈ lw_all := lw_g (lw_at lw_m4 5 rfl) rfl
theorem q811 : (Jvm.Cond.soleField "UnreadScript" "wordTo") ∈ lw_all := lw_g (lw_at lw_m4 6 rfl) rfl
theorem q812 : (Jvm.Cond.lays "UnreadScript" "UnreadScript" "wordMany" "I") ∈ lw_all := lw_g (lw_at lw_m4 7 rfl) rfl
theorem q813 : (Jvm.Cond.soleField "UnreadScript" "wordMany") ∈ lw_all := lw_g (lw_at lw_m4 8 rfl) rfl
theorem q814 : (Jvm.Cond.laysFinal "UnreadScript" "UnreadScript" "akin" "[[I") ∈ lw_all := lw_g (lw_at lw_m4 9 rfl) rfl
theorem q815 : (Jvm.Cond.soleField "UnreadScript" "akin") ∈ lw_all := lw_g (lw_at lw_m4 10 rfl) rfl
theorem q816 : (Jvm.Cond.laysFinal "UnreadScript" "UnreadScript" "apart" "[[I") ∈ lw_all := lw_g (lw_at lw_m4 11 rfl) rfl
theorem q817 : (Jvm.Cond.soleField "UnreadScript" "apart") ∈ lw_all := lw_g (lw_at lw_m4 12 rfl) rfl
theorem q818 : (Jvm.Cond.laysFinal "UnreadScript" "UnreadScript" "gridSigns" "[I") ∈ lw_all := lw_g (lw_at lw_m4 13 rfl) rfl
theorem q819 : (Jvm.Cond.soleField "UnreadScript" "gridSigns") ∈ lw_all := lw_g (lw_at lw_m4 14 rfl) rfl
theorem q820 : (Jvm.Cond.lays "UnreadScript" "UnreadScript" "gridMany" "I") ∈ lw_all := lw_g (lw_at lw_m4 15 rfl) rfl
theorem q821 : (Jvm.Cond.soleField "UnreadScript" "gridMany") ∈ lw_all := lw_g (lw_at lw_m4 16 rfl) rfl
theorem q822 : (Jvm.Cond.laysFinal "UnreadScript" "UnreadScript" "rowOf" "[I") ∈ lw_all := lw_g (lw_at lw_m4 17 rfl) rfl
theorem q823 : (Jvm.Cond.soleField "UnreadScript" "rowOf") ∈ lw_all := lw_g (lw_at lw_m4 18 rfl) rfl
theorem q824 : (Jvm.Cond.laysFinal "UnreadScript" "UnreadScript" "bestRow" "[I") ∈ lw_all := lw_g (lw_at lw_m4 19 rfl) rfl
theorem q825 : (Jvm.Cond.soleField "UnreadScript" "bestRow") ∈ lw_all := lw_g (lw_at lw_m4 20 rfl) rfl
theorem q826 : (Jvm.Cond.laysFinal "UnreadScript" "UnreadScript" "items" "[I") ∈ lw_all := lw_g (lw_at lw_m4 21 rfl) rfl
theorem q827 : (Jvm.Cond.soleField "UnreadScript" "items") ∈ lw_all := lw_g (lw_at lw_m4 22 rfl) rfl
theorem q828 : (Jvm.Cond.laysFinal "UnreadScript" "UnreadScript" "totals" "[I") ∈ lw_all := lw_g (lw_at lw_m4 23 rfl) rfl
theorem q829 : (Jvm.Cond.soleField "UnreadScript" "totals") ∈ lw_all := lw_g (lw_at lw_m4 24 rfl) rfl
theorem q830 : (Jvm.Cond.lays "UnreadScript" "UnreadScript" "accountMany" "I") ∈ lw_all := lw_g (lw_at lw_m4 25 rfl) rfl
theorem q831 : (Jvm.Cond.soleField "UnreadScript" "accountMany") ∈ lw_all := lw_g (lw_at lw_m4 26 rfl) rfl
theorem q832 : (Jvm.Cond.laysFinal "UnreadScript" "UnreadScript" "picks" "[I") ∈ lw_all := lw_g (lw_at lw_m4 27 rfl) rfl
theorem q833 : (Jvm.Cond.soleField "UnreadScript" "picks") ∈ lw_all := lw_g (lw_at lw_m4 28 rfl) rfl
theorem q834 : (Jvm.Cond.laysFinal "UnreadScript" "UnreadScript" "names" "[LUnreadScript$Name;") ∈ lw_all := lw_g (lw_at lw_m4 29 rfl) rfl
theorem q835 : (Jvm.Cond.soleField "UnreadScript" "names") ∈ lw_all := lw_g (lw_at lw_m4 30 rfl) rfl
theorem q836 : (Jvm.Cond.lays "UnreadScript" "UnreadScript" "nameMany" "I") ∈ lw_all := lw_g (lw_at lw_m4 31 rfl) rfl
theorem q837 : (Jvm.Cond.soleField "UnreadScript" "nameMany") ∈ lw_all := lw_g (lw_at lw_m4 32 rfl) rfl
theorem q838 : (Jvm.Cond.laysFinal "UnreadScript" "UnreadScript" "words" "[LUnreadScript$Word;") ∈ lw_all := lw_g (lw_at lw_m4 33 rfl) rfl
theorem q839 : (Jvm.Cond.soleField "UnreadScript" "words") ∈ lw_all := lw_g (lw_at lw_m4 34 rfl) rfl
theorem q840 : (Jvm.Cond.lays "UnreadScript" "UnreadScript" "tongueMany" "I") ∈ lw_all := lw_g (lw_at lw_m4 35 rfl) rfl
theorem q841 : (Jvm.Cond.soleField "UnreadScript" "tongueMany") ∈ lw_all := lw_g (lw_at lw_m4 36 rfl) rfl
theorem q842 : (Jvm.Cond.laysFinal "UnreadScript" "UnreadScript" "isSpoken" "[[Z") ∈ lw_all := lw_g (lw_at lw_m4 37 rfl) rfl
theorem q843 : (Jvm.Cond.soleField "UnreadScript" "isSpoken") ∈ lw_all := lw_g (lw_at lw_m4 38 rfl) rfl
theorem q844 : (Jvm.Cond.laysFinal "UnreadScript" "UnreadScript" "signFor" "[I") ∈ lw_all := lw_g (lw_at lw_m4 39 rfl) rfl
theorem q845 : (Jvm.Cond.soleField "UnreadScript" "signFor") ∈ lw_all := lw_g (lw_at lw_m4 40 rfl) rfl
theorem q846 : (Jvm.Cond.laysFinal "UnreadScript" "UnreadScript" "soundFor" "[I") ∈ lw_all := lw_g (lw_at lw_m4 41 rfl) rfl
theorem q847 : (Jvm.Cond.soleField "UnreadScript" "soundFor") ∈ lw_all := lw_g (lw_at lw_m4 42 rfl) rfl
theorem q848 : (Jvm.Cond.laysFinal "UnreadScript" "UnreadScript" "tabled" "[I") ∈ lw_all := lw_g (lw_at lw_m4 43 rfl) rfl
theorem q849 : (Jvm.Cond.soleField "UnreadScript" "tabled") ∈ lw_all := lw_g (lw_at lw_m4 44 rfl) rfl
theorem q850 : (Jvm.Cond.lays "UnreadScript" "UnreadScript" "tabledMany" "I") ∈ lw_all := lw_g (lw_at lw_m4 45 rfl) rfl
theorem q851 : (Jvm.Cond.soleField "UnreadScript" "tabledMany") ∈ lw_all := lw_g (lw_at lw_m4 46 rfl) rfl
theorem q852 : (Jvm.Cond.laysFinal "UnreadScript" "UnreadScript" "placeOf" "[I") ∈ lw_all := lw_g (lw_at lw_m4 47 rfl) rfl
theorem q853 : (Jvm.Cond.soleField "UnreadScript" "placeOf") ∈ lw_all := lw_g (lw_at lw_m4 48 rfl) rfl
theorem q854 : (Jvm.Cond.laysFinal "UnreadScript" "UnreadScript" "sounds" "[I") ∈ lw_all := lw_g (lw_at lw_m4 49 rfl) rfl
theorem q855 : (Jvm.Cond.soleField "UnreadScript" "sounds") ∈ lw_all := lw_g (lw_at lw_m4 50 rfl) rfl
theorem q856 : (Jvm.Cond.laysFinal "UnreadScript" "UnreadScript" "spelt" "[[I") ∈ lw_all := lw_g (lw_at lw_m4 51 rfl) rfl
theorem q857 : (Jvm.Cond.soleField "UnreadScript" "spelt") ∈ lw_all := lw_g (lw_at lw_m4 52 rfl) rfl
theorem q858 : (Jvm.Cond.lays "UnreadScript" "UnreadScript" "speltMany" "I") ∈ lw_all := lw_g (lw_at lw_m4 53 rfl) rfl
theorem q859 : (Jvm.Cond.soleField "UnreadScript" "speltMany") ∈ lw_all := lw_g (lw_at lw_m4 54 rfl) rfl
theorem q860 : (Jvm.Cond.lays "UnreadScript" "UnreadScript" "bestTable" "I") ∈ lw_all := lw_g (lw_at lw_m4 55 rfl) rfl
theorem q861 : (Jvm.Cond.soleField "UnreadScript" "bestTable") ∈ lw_all := lw_g (lw_at lw_m4 56 rfl) rfl
theorem q862 : (Jvm.Cond.lays "UnreadScript" "UnreadScript" "bestRead" "I") ∈ lw_all := lw_g (lw_at lw_m4 57 rfl) rfl
theorem q863 : (Jvm.Cond.soleField "UnreadScript" "bestRead") ∈ lw_all := lw_g (lw_at lw_m4 58 rfl) rfl
theorem q864 : (Jvm.Cond.lays "UnreadScript" "UnreadScript" "bestMany" "I") ∈ lw_all := lw_g (lw_at lw_m4 59 rfl) rfl
theorem q865 : (Jvm.Cond.soleField "UnreadScript" "bestMany") ∈ lw_all := lw_g (lw_at lw_m4 60 rfl) rfl
theorem q866 : (Jvm.Cond.laysFinal "UnreadScript" "UnreadScript" "order" "[I") ∈ lw_all := lw_g (lw_at lw_m4 61 rfl) rfl
theorem q867 : (Jvm.Cond.soleField "UnreadScript" "order") ∈ lw_all := lw_g (lw_at lw_m4 62 rfl) rfl
theorem q868 : (Jvm.Cond.lays "UnreadScript" "UnreadScript" "shuffles" "I") ∈ lw_all := lw_g (lw_at lw_m4 63 rfl) rfl
theorem q869 : (Jvm.Cond.soleField "UnreadScript" "shuffles") ∈ lw_all := lw_g (lw_at lw_m4 64 rfl) rfl
theorem q870 : (Jvm.Cond.lays "UnreadScript" "UnreadScript" "asGood" "I") ∈ lw_all := lw_g (lw_at lw_m4 65 rfl) rfl
theorem q871 : (Jvm.Cond.soleField "UnreadScript" "asGood") ∈ lw_all := lw_g (lw_at lw_m4 66 rfl) rfl
theorem q872 : (Jvm.Cond.laysFinal "UnreadScript" "UnreadScript" "claims" "[LUnreadScript$Claim;") ∈ lw_all := lw_g (lw_at lw_m4 67 rfl) rfl
theorem q873 : (Jvm.Cond.soleField "UnreadScript" "claims") ∈ lw_all := lw_g (lw_at lw_m4 68 rfl) rfl
theorem q874 : (Jvm.Cond.lays "UnreadScript" "UnreadScript" "claimMany" "I") ∈ lw_all := lw_g (lw_at lw_m4 69 rfl) rfl
theorem q875 : (Jvm.Cond.soleField "UnreadScript" "claimMany") ∈ lw_all := lw_g (lw_at lw_m4 70 rfl) rfl
theorem q876 : (Jvm.Cond.lays "UnreadScript" "UnreadScript" "today" "I") ∈ lw_all := lw_g (lw_at lw_m4 71 rfl) rfl
theorem q877 : (Jvm.Cond.soleField "UnreadScript" "today") ∈ lw_all := lw_g (lw_at lw_m4 72 rfl) rfl
theorem q878 : (Jvm.Cond.laysFinal "UnreadScript" "UnreadScript" "tape" "[B") ∈ lw_all := lw_g (lw_at lw_m4 73 rfl) rfl
theorem q879 : (Jvm.Cond.soleField "UnreadScript" "tape") ∈ lw_all := lw_g (lw_at lw_m4 74 rfl) rfl
theorem q880 : (Jvm.Cond.lays "UnreadScript" "UnreadScript" "taped" "I") ∈ lw_all := lw_g (lw_at lw_m4 75 rfl) rfl
theorem q881 : (Jvm.Cond.soleField "UnreadScript" "taped") ∈ lw_all := lw_g (lw_at lw_m4 76 rfl) rfl
theorem q882 : (Jvm.Cond.lays "UnreadScript" "UnreadScript" "fault" "I") ∈ lw_all := lw_g (lw_at lw_m4 77 rfl) rfl
theorem q883 : (Jvm.Cond.soleField "UnreadScript" "fault") ∈ lw_all := lw_g (lw_at lw_m4 78 rfl) rfl
theorem q884 : (Jvm.Cond.laysFinal "UnreadScript" "UnreadScript" "sheets" "[LUnreadScript$Sheet;") ∈ lw_all := lw_g (lw_at lw_m4 79 rfl) rfl
theorem q885 : (Jvm.Cond.soleField "UnreadScript" "sheets") ∈ lw_all := lw_g (lw_at lw_m4 80 rfl) rfl
theorem q886 : (Jvm.Cond.superclass "UnreadScript" "java/lang/Object") ∈ lw_all := lw_g (lw_at lw_m4 81 rfl) rfl
theorem q888 : (Jvm.Cond.instanceMethod ({ cls := "UnreadScript", name := "sheet", desc := "(III)I" } : Jvm.MethodName)) ∈ lw_all := lw_g (lw_at lw_m4 83 rfl) rfl
theorem q889 : (Jvm.Cond.selects "UnreadScript" ({ cls := "UnreadScript", name := "sheet", desc := "(III)I" } : Jvm.MethodName) ({ cls := "UnreadScript", name := "sheet", desc := "(III)I" } : Jvm.MethodName)) ∈ lw_all := lw_g (lw_at lw_m4 84 rfl) rfl
theorem q890 : (Jvm.Cond.codeWith ({ cls := "UnreadScript", name := "sheet", desc := "(III)I" } : Jvm.MethodName) prog_1_method_72_code (5 : Nat) (Option.some Jvm.ClassFile.FieldType.int) [((32 : Nat), (57 : Nat), (58 : Nat), (419 : Nat))]) ∈ lw_all := lw_g (lw_at lw_m4 85 rfl) rfl
theorem q891 : (Jvm.Cond.classLink "UnreadScript" (419 : Nat) "java/lang/NegativeArraySizeException") ∈ lw_all := lw_g (lw_at lw_m4 86 rfl) rfl
theorem q918 : (Jvm.Cond.methodLink "UnreadScript" (409 : Nat) ({ cls := "UnreadScript", name := "newRow", desc := "(II)Ljava/lang/Object;" } : Jvm.MethodName)) ∈ lw_all := lw_g (lw_at lw_m4 113 rfl) rfl
theorem q919 : (Jvm.Cond.static ({ cls := "UnreadScript", name := "newRow", desc := "(II)Ljava/lang/Object;" } : Jvm.MethodName)) ∈ lw_all := lw_g (lw_at lw_m4 114 rfl) rfl
theorem q920 : (Jvm.Cond.code ({ cls := "UnreadScript", name := "newRow", desc := "(II)Ljava/lang/Object;" } : Jvm.MethodName) prog_1_method_71_code (2 : Nat) (Option.some (Jvm.ClassFile.FieldType.object "java/lang/Object"))) ∈ lw_all := lw_g (lw_at lw_m4 115 rfl) rfl
theorem q923 : (Jvm.Cond.instanceMethod ({ cls := "UnreadScript", name := "lay", desc := "(III)I" } : Jvm.MethodName)) ∈ lw_all := lw_g (lw_at lw_m4 118 rfl) rfl
theorem q924 : (Jvm.Cond.selects "UnreadScript" ({ cls := "UnreadScript", name := "lay", desc := "(III)I" } : Jvm.MethodName) ({ cls := "UnreadScript", name := "lay", desc := "(III)I" } : Jvm.MethodName)) ∈ lw_all := lw_g (lw_at lw_m4 119 rfl) rfl
theorem q925 : (Jvm.Cond.codeWith ({ cls := "UnreadScript", name := "lay", desc := "(III)I" } : Jvm.MethodName) prog_1_method_73_code (6 : Nat) (Option.some Jvm.ClassFile.FieldType.int) [((25 : Nat), (74 : Nat), (75 : Nat), (424 : Nat)), ((25 : Nat), (74 : Nat), (80 : Nat), (426 : Nat))]) ∈ lw_all := lw_g (lw_at lw_m4 120 rfl) rfl
theorem q926 : (Jvm.Cond.classLink "UnreadScript" (424 : Nat) "java/lang/NullPointerException") ∈ lw_all := lw_g (lw_at lw_m4 121 rfl) rfl
theorem q951 : (Jvm.Cond.classLink "UnreadScript" (426 : Nat) "java/lang/ArrayIndexOutOfBoundsException") ∈ lw_all := lw_g (lw_at lw_m4 146 rfl) rfl
theorem q970 : (Jvm.Cond.classLink "UnreadScript" (421 : Nat) "[B") ∈ lw_all := lw_g (lw_at lw_m4 165 rfl) rfl
theorem q971 : (Jvm.Cond.classLink "UnreadScript" (422 : Nat) "[S") ∈ lw_all := lw_g (lw_at lw_m4 166 rfl) rfl
theorem q973 : (Jvm.Cond.instanceMethod ({ cls := "UnreadScript", name := "text", desc := "(IIII)I" } : Jvm.MethodName)) ∈ lw_all := lw_g (lw_at lw_m4 168 rfl) rfl
theorem q974 : (Jvm.Cond.selects "UnreadScript" ({ cls := "UnreadScript", name := "text", desc := "(IIII)I" } : Jvm.MethodName) ({ cls := "UnreadScript", name := "text", desc := "(IIII)I" } : Jvm.MethodName)) ∈ lw_all := lw_g (lw_at lw_m4 169 rfl) rfl
theorem q975 : (Jvm.Cond.codeWith ({ cls := "UnreadScript", name := "text", desc := "(IIII)I" } : Jvm.MethodName) prog_1_method_75_code (7 : Nat) (Option.some Jvm.ClassFile.FieldType.int) [((45 : Nat), (113 : Nat), (123 : Nat), (424 : Nat)), ((114 : Nat), (120 : Nat), (123 : Nat), (424 : Nat)), ((45 : Nat), (113 : Nat), (128 : Nat), (434 : Nat)), ((114 : Nat), (120 : Nat), (128 : Nat), (434 : Nat)), ((45 : Nat), (113 : Nat), (133 : Nat), (426 : Nat)), ((114 : Nat), (120 : Nat), (133 : Nat), (426 : Nat))]) ∈ lw_all := lw_g (lw_at lw_m4 170 rfl) rfl
theorem q976 : (Jvm.Cond.classLink "UnreadScript" (434 : Nat) "java/lang/ClassCastException") ∈ lw_all := lw_g (lw_at lw_m4 171 rfl) rfl
theorem q990 : (Jvm.Cond.constantLong "UnreadScript" (428 : Nat) (24 : Int64)) ∈ lw_all := lw_g (lw_at lw_m4 185 rfl) rfl
theorem q991 : (Jvm.Cond.methodLink "UnreadScript" (430 : Nat) ({ cls := "UnreadScript", name := "cell", desc := "(Ljava/lang/Object;II)I" } : Jvm.MethodName)) ∈ lw_all := lw_g (lw_at lw_m4 186 rfl) rfl
theorem q992 : (Jvm.Cond.static ({ cls := "UnreadScript", name := "cell", desc := "(Ljava/lang/Object;II)I" } : Jvm.MethodName)) ∈ lw_all := lw_g (lw_at lw_m4 187 rfl) rfl
theorem q993 : (Jvm.Cond.code ({ cls := "UnreadScript", name := "cell", desc := "(Ljava/lang/Object;II)I" } : Jvm.MethodName) prog_1_method_74_code (3 : Nat) (Option.some Jvm.ClassFile.FieldType.int)) ∈ lw_all := lw_g (lw_at lw_m4 188 rfl) rfl
theorem q995 : (Jvm.Cond.methodLink "UnreadScript" (436 : Nat) ({ cls := "UnreadScript$Text", name := "<init>", desc := "([I)V" } : Jvm.MethodName)) ∈ lw_all := lw_g (lw_at lw_m4 190 rfl) rfl
theorem q1000 : (Jvm.Cond.fieldLinkNest "UnreadScript" (53 : Nat) "UnreadScript$Text" "cells" "[I" "UnreadScript") ∈ lw_tbl := lw_at lw_m4 195 rfl
theorem q1005 : (Jvm.Cond.instanceMethod ({ cls := "UnreadScript", name := "count", desc := "(I)I" } : Jvm.MethodName)) ∈ lw_all := lw_g (lw_at lw_m4 200 rfl) rfl
theorem q1006 : (Jvm.Cond.selects "UnreadScript" ({ cls := "UnreadScript", name := "count", desc := "(I)I" } : Jvm.MethodName) ({ cls := "UnreadScript", name := "count", desc := "(I)I" } : Jvm.MethodName)) ∈ lw_all := lw_g (lw_at lw_m4 201 rfl) rfl
theorem q1007 : (Jvm.Cond.code ({ cls := "UnreadScript", name := "count", desc := "(I)I" } : Jvm.MethodName) prog_1_method_76_code (4 : Nat) (Option.some Jvm.ClassFile.FieldType.int)) ∈ lw_all := lw_g (lw_at lw_m4 202 rfl) rfl
theorem q1560 : (Jvm.Cond.stringRef "UnreadScript" (441 : Nat) "sign") ∈ lw_tbl := lw_at lw_m7 35 rfl
theorem q1561 : (Jvm.Cond.stringRef "UnreadScript" (443 : Nat) "sound") ∈ lw_tbl := lw_at lw_m7 36 rfl
theorem q1562 : (Jvm.Cond.stringRef "UnreadScript" (445 : Nat) "word") ∈ lw_tbl := lw_at lw_m7 37 rfl
theorem q1563 : (Jvm.Cond.stringRef "UnreadScript" (447 : Nat) "name") ∈ lw_tbl := lw_at lw_m7 38 rfl
theorem q1564 : (Jvm.Cond.stringRef "UnreadScript" (449 : Nat) "tongue") ∈ lw_tbl := lw_at lw_m7 39 rfl
theorem q1565 : (Jvm.Cond.stringRef "UnreadScript" (451 : Nat) "on") ∈ lw_tbl := lw_at lw_m7 40 rfl
theorem in_X0 : ∀ w ∈ wsX00, w ∈ lw_all := lw_in wsX00 [788, 790, 792, 794, 796, 798, 800, 802, 804, 806, 808, 810, 812, 814, 816, 818, 820, 822, 824, 826, 828, 830, 832, 834, 836, 838, 840, 842, 844, 846, 848, 850, 852, 854, 856, 858, 860, 862, 864, 866, 868, 870, 872, 874, 876, 878, 880, 882, 884] (by decide +kernel) (by decide +kernel)

