set_option maxRecDepth 100000
theorem dksX2_tabled_1 : cX2_tabled.data.toList.drop 23 = dktX2_tabled_1 := dk_seg dksX2_tabled_0 23 rfl rfl
theorem dX2_tabled_0 : decode cX2_tabled 0 = .ok (.iload_n 1, 1) := dk_27 (dk_at dksX2_tabled_0 0 rfl rfl)
theorem dX2_tabled_1 : decode cX2_tabled 1 = .ok (.i2l, 1) := dk_133 (dk_at dksX2_tabled_0 1 rfl rfl)
theorem dX2_tabled_2 : decode cX2_tabled 2 = .ok (.lconst 0, 1) := dk_9 (dk_at dksX2_tabled_0 2 rfl rfl)
theorem dX2_tabled_3 : decode cX2_tabled 3 = .ok (.ldc2_w 177, 3) := dk_20 0 177 (dk_at dksX2_tabled_0 3 rfl rfl)
theorem dX2_tabled_6 : decode cX2_tabled 6 = .ok (.invokestatic 138, 3) := dk_184 0 138 (dk_at dksX2_tabled_0 6 rfl rfl)
theorem dX2_tabled_9 : decode cX2_tabled 9 = .ok (.ifCond .ne 5, 3) := dk_154 0 5 (dk_at dksX2_tabled_0 9 rfl rfl)
theorem dX2_tabled_12 : decode cX2_tabled 12 = .ok (.iconst (-1), 1) := dk_2 (dk_at dksX2_tabled_0 12 rfl rfl)
theorem dX2_tabled_13 : decode cX2_tabled 13 = .ok (.ireturn, 1) := dk_172 (dk_at dksX2_tabled_0 13 rfl rfl)
theorem dX2_tabled_14 : decode cX2_tabled 14 = .ok (.aload_n 0, 1) := dk_42 (dk_at dksX2_tabled_0 14 rfl rfl)
theorem dX2_tabled_15 : decode cX2_tabled 15 = .ok (.invokevirtual 285, 3) := dk_182 1 29 (dk_at dksX2_tabled_0 15 rfl rfl)
theorem dX2_tabled_18 : decode cX2_tabled 18 = .ok (.iload_n 1, 1) := dk_27 (dk_at dksX2_tabled_0 18 rfl rfl)
theorem dX2_tabled_19 : decode cX2_tabled 19 = .ok (.aload_n 0, 1) := dk_42 (dk_at dksX2_tabled_0 19 rfl rfl)
theorem dX2_tabled_20 : decode cX2_tabled 20 = .ok (.getfield 282, 3) := dk_180 1 26 (dk_at dksX2_tabled_0 20 rfl rfl)
theorem dX2_tabled_23 : decode cX2_tabled 23 = .ok (.if_icmp .ge 12, 3) := dk_162 0 12 (dk_at dksX2_tabled_1 0 rfl rfl)
theorem dX2_tabled_26 : decode cX2_tabled 26 = .ok (.aload_n 0, 1) := dk_42 (dk_at dksX2_tabled_1 3 rfl rfl)
theorem dX2_tabled_27 : decode cX2_tabled 27 = .ok (.getfield 87, 3) := dk_180 0 87 (dk_at dksX2_tabled_1 4 rfl rfl)
theorem dX2_tabled_30 : decode cX2_tabled 30 = .ok (.iload_n 1, 1) := dk_27 (dk_at dksX2_tabled_1 7 rfl rfl)
theorem dX2_tabled_31 : decode cX2_tabled 31 = .ok (.iaload, 1) := dk_46 (dk_at dksX2_tabled_1 8 rfl rfl)
theorem dX2_tabled_32 : decode cX2_tabled 32 = .ok (.goto 5, 3) := dk_167 0 5 (dk_at dksX2_tabled_1 9 rfl rfl)
theorem dX2_tabled_35 : decode cX2_tabled 35 = .ok (.bipush (-4), 2) := dk_16 252 (dk_at dksX2_tabled_1 12 rfl rfl)
theorem dX2_tabled_37 : decode cX2_tabled 37 = .ok (.ireturn, 1) := dk_172 (dk_at dksX2_tabled_1 14 rfl rfl)
abbrev cX2_findTable : ByteArray := prog_11_method_52_code
def yX2_findTable : MethodName := ⟨RX2, "findTable", "()V"⟩
def dkwX2_findTable_7 : List UInt8 := [42, 180, 1, 26, 79, 42, 89, 180, 1, 26, 4, 96, 181, 1, 26, 167, 255, 112, 177]
abbrev dktX2_findTable_7 : List UInt8 := dkwX2_findTable_7 ++ []
def dkwX2_findTable_6 : List UInt8 := [167, 0, 4, 3, 60, 27, 153, 0, 33, 42, 180, 0, 87, 42, 180, 1, 26, 28, 79, 42, 180, 0, 90, 28]
abbrev dktX2_findTable_6 : List UInt8 := dkwX2_findTable_6 ++ dktX2_findTable_7
def dkwX2_findTable_5 : List UInt8 := [164, 0, 7, 29, 167, 0, 4, 28, 61, 132, 3, 1, 167, 255, 179, 28, 16, 252, 159, 0, 7, 4]
abbrev dktX2_findTable_5 : List UInt8 := dkwX2_findTable_5 ++ dktX2_findTable_6
def dkwX2_findTable_4 : List UInt8 := [54, 4, 21, 4, 153, 0, 26, 28, 16, 252, 159, 0, 16, 42, 29, 182, 0, 187, 42, 28, 182, 0, 187]
abbrev dktX2_findTable_4 : List UInt8 := dkwX2_findTable_4 ++ dktX2_findTable_5
def dkwX2_findTable_3 : List UInt8 := [180, 0, 90, 29, 46, 16, 252, 160, 0, 15, 42, 29, 182, 0, 187, 158, 0, 7, 4, 167, 0, 4, 3]
abbrev dktX2_findTable_3 : List UInt8 := dkwX2_findTable_3 ++ dktX2_findTable_4
def dkwX2_findTable_2 : List UInt8 := [61, 3, 62, 29, 42, 180, 0, 135, 162, 0, 75, 42, 180, 0, 17, 29, 46, 29, 160, 0, 26, 42]
abbrev dktX2_findTable_2 : List UInt8 := dkwX2_findTable_2 ++ dktX2_findTable_3
def dkwX2_findTable_1 : List UInt8 := [79, 132, 1, 1, 167, 255, 239, 4, 60, 27, 153, 0, 146, 42, 180, 1, 26, 16, 6, 162, 0, 137, 16, 252]
abbrev dktX2_findTable_1 : List UInt8 := dkwX2_findTable_1 ++ dktX2_findTable_2
def dkwX2_findTable_0 : List UInt8 := [42, 182, 0, 181, 42, 3, 181, 1, 26, 3, 60, 27, 16, 24, 162, 0, 17, 42, 180, 0, 90, 27, 16, 252]
abbrev dktX2_findTable_0 : List UInt8 := dkwX2_findTable_0 ++ dktX2_findTable_1
theorem dksX2_findTable_0 : cX2_findTable.data.toList.drop 0 = dktX2_findTable_0 := by decide +kernel
theorem dksX2_findTable_1 : cX2_findTable.data.toList.drop 24 = dktX2_findTable_1 := dk_seg dksX2_findTable_0 24 rfl rfl
theorem dksX2_findTable_2 : cX2_findTable.data.toList.drop 48 = dktX2_findTable_2 := dk_seg dksX2_findTable_1 24 rfl rfl
theorem dksX2_findTable_3 : cX2_findTable.data.toList.drop 70 = dktX2_findTable_3 := dk_seg dksX2_findTable_2 22 rfl rfl
theorem dksX2_findTable_4 : cX2_findTable.data.toList.drop 93 = dktX2_findTable_4 := dk_seg dksX2_findTable_3 23 rfl rfl
theorem dksX2_findTable_5 : cX2_findTable.data.toList.drop 116 = dktX2_findTable_5 := dk_seg dksX2_findTable_4 23 rfl rfl
theorem dksX2_findTable_6 : cX2_findTable.data.toList.drop 138 = dktX2_findTable_6 := dk_seg dksX2_findTable_5 22 rfl rfl
theorem dksX2_findTable_7 : cX2_findTable.data.toList.drop 162 = dktX2_findTable_7 := dk_seg dksX2_findTable_6 24 rfl rfl
theorem dX2_findTable_0 : decode cX2_findTable 0 = .ok (.aload_n 0, 1) := dk_42 (dk_at dksX2_findTable_0 0 rfl rfl)
theorem dX2_findTable_1 : decode cX2_findTable 1 = .ok (.invokevirtual 181, 3) := dk_182 0 181 (dk_at dksX2_findTable_0 1 rfl rfl)
theorem dX2_findTable_4 : decode cX2_findTable 4 = .ok (.aload_n 0, 1) := dk_42 (dk_at dksX2_findTable_0 4 rfl rfl)
theorem dX2_findTable_5 : decode cX2_findTable 5 = .ok (.iconst 0, 1) := dk_3 (dk_at dksX2_findTable_0 5 rfl rfl)
theorem dX2_findTable_6 : decode cX2_findTable 6 = .ok (.putfield 282, 3) := dk_181 1 26 (dk_at dksX2_findTable_0 6 rfl rfl)
theorem dX2_findTable_9 : decode cX2_findTable 9 = .ok (.iconst 0, 1) := dk_3 (dk_at dksX2_findTable_0 9 rfl rfl)
theorem dX2_findTable_10 : decode cX2_findTable 10 = .ok (.istore_n 1, 1) := dk_60 (dk_at dksX2_findTable_0 10 rfl rfl)
theorem dX2_findTable_11 : decode cX2_findTable 11 = .ok (.iload_n 1, 1) := dk_27 (dk_at dksX2_findTable_0 11 rfl rfl)
theorem dX2_findTable_12 : decode cX2_findTable 12 = .ok (.bipush 24, 2) := dk_16 24 (dk_at dksX2_findTable_0 12 rfl rfl)
theorem dX2_findTable_14 : decode cX2_findTable 14 = .ok (.if_icmp .ge 17, 3) := dk_162 0 17 (dk_at dksX2_findTable_0 14 rfl rfl)
theorem dX2_findTable_17 : decode cX2_findTable 17 = .ok (.aload_n 0, 1) := dk_42 (dk_at dksX2_findTable_0 17 rfl rfl)
theorem dX2_findTable_18 : decode cX2_findTable 18 = .ok (.getfield 90, 3) := dk_180 0 90 (dk_at dksX2_findTable_0 18 rfl rfl)
theorem dX2_findTable_21 : decode cX2_findTable 21 = .ok (.iload_n 1, 1) := dk_27 (dk_at dksX2_findTable_0 21 rfl rfl)
theorem dX2_findTable_22 : decode cX2_findTable 22 = .ok (.bipush (-4), 2) := dk_16 252 (dk_at dksX2_findTable_0 22 rfl rfl)
theorem dX2_findTable_24 : decode cX2_findTable 24 = .ok (.iastore, 1) := dk_79 (dk_at dksX2_findTable_1 0 rfl rfl)
theorem dX2_findTable_25 : decode cX2_findTable 25 = .ok (.iinc 1 1, 3) := dk_132 1 1 (dk_at dksX2_findTable_1 1 rfl rfl)
theorem dX2_findTable_28 : decode cX2_findTable 28 = .ok (.goto (-17), 3) := dk_167 255 239 (dk_at dksX2_findTable_1 4 rfl rfl)
theorem dX2_findTable_31 : decode cX2_findTable 31 = .ok (.iconst 1, 1) := dk_4 (dk_at dksX2_findTable_1 7 rfl rfl)
theorem dX2_findTable_32 : decode cX2_findTable 32 = .ok (.istore_n 1, 1) := dk_60 (dk_at dksX2_findTable_1 8 rfl rfl)
theorem dX2_findTable_33 : decode cX2_findTable 33 = .ok (.iload_n 1, 1) := dk_27 (dk_at dksX2_findTable_1 9 rfl rfl)
theorem dX2_findTable_34 : decode cX2_findTable 34 = .ok (.ifCond .eq 146, 3) := dk_153 0 146 (dk_at dksX2_findTable_1 10 rfl rfl)
theorem dX2_findTable_37 : decode cX2_findTable 37 = .ok (.aload_n 0, 1) := dk_42 (dk_at dksX2_findTable_1 13 rfl rfl)
theorem dX2_findTable_38 : decode cX2_findTable 38 = .ok (.getfield 282, 3) := dk_180 1 26 (dk_at dksX2_findTable_1 14 rfl rfl)
theorem dX2_findTable_41 : decode cX2_findTable 41 = .ok (.bipush 6, 2) := dk_16 6 (dk_at dksX2_findTable_1 17 rfl rfl)
theorem dX2_findTable_43 : decode cX2_findTable 43 = .ok (.if_icmp .ge 137, 3) := dk_162 0 137 (dk_at dksX2_findTable_1 19 rfl rfl)
theorem dX2_findTable_46 : decode cX2_findTable 46 = .ok (.bipush (-4), 2) := dk_16 252 (dk_at dksX2_findTable_1 22 rfl rfl)
theorem dX2_findTable_48 : decode cX2_findTable 48 = .ok (.istore_n 2, 1) := dk_61 (dk_at dksX2_findTable_2 0 rfl rfl)
theorem dX2_findTable_49 : decode cX2_findTable 49 = .ok (.iconst 0, 1) := dk_3 (dk_at dksX2_findTable_2 1 rfl rfl)
theorem dX2_findTable_50 : decode cX2_findTable 50 = .ok (.istore_n 3, 1) := dk_62 (dk_at dksX2_findTable_2 2 rfl rfl)
theorem dX2_findTable_51 : decode cX2_findTable 51 = .ok (.iload_n 3, 1) := dk_29 (dk_at dksX2_findTable_2 3 rfl rfl)
theorem dX2_findTable_52 : decode cX2_findTable 52 = .ok (.aload_n 0, 1) := dk_42 (dk_at dksX2_findTable_2 4 rfl rfl)
theorem dX2_findTable_53 : decode cX2_findTable 53 = .ok (.getfield 135, 3) := dk_180 0 135 (dk_at dksX2_findTable_2 5 rfl rfl)
theorem dX2_findTable_56 : decode cX2_findTable 56 = .ok (.if_icmp .ge 75, 3) := dk_162 0 75 (dk_at dksX2_findTable_2 8 rfl rfl)
theorem dX2_findTable_59 : decode cX2_findTable 59 = .ok (.aload_n 0, 1) := dk_42 (dk_at dksX2_findTable_2 11 rfl rfl)
theorem dX2_findTable_60 : decode cX2_findTable 60 = .ok (.getfield 17, 3) := dk_180 0 17 (dk_at dksX2_findTable_2 12 rfl rfl)
theorem dX2_findTable_63 : decode cX2_findTable 63 = .ok (.iload_n 3, 1) := dk_29 (dk_at dksX2_findTable_2 15 rfl rfl)
theorem dX2_findTable_64 : decode cX2_findTable 64 = .ok (.iaload, 1) := dk_46 (dk_at dksX2_findTable_2 16 rfl rfl)
theorem dX2_findTable_65 : decode cX2_findTable 65 = .ok (.iload_n 3, 1) := dk_29 (dk_at dksX2_findTable_2 17 rfl rfl)
theorem dX2_findTable_66 : decode cX2_findTable 66 = .ok (.if_icmp .ne 26, 3) := dk_160 0 26 (dk_at dksX2_findTable_2 18 rfl rfl)
theorem dX2_findTable_69 : decode cX2_findTable 69 = .ok (.aload_n 0, 1) := dk_42 (dk_at dksX2_findTable_2 21 rfl rfl)
theorem dX2_findTable_70 : decode cX2_findTable 70 = .ok (.getfield 90, 3) := dk_180 0 90 (dk_at dksX2_findTable_3 0 rfl rfl)
theorem dX2_findTable_73 : decode cX2_findTable 73 = .ok (.iload_n 3, 1) := dk_29 (dk_at dksX2_findTable_3 3 rfl rfl)
theorem dX2_findTable_74 : decode cX2_findTable 74 = .ok (.iaload, 1) := dk_46 (dk_at dksX2_findTable_3 4 rfl rfl)
theorem dX2_findTable_75 : decode cX2_findTable 75 = .ok (.bipush (-4), 2) := dk_16 252 (dk_at dksX2_findTable_3 5 rfl rfl)
theorem dX2_findTable_77 : decode cX2_findTable 77 = .ok (.if_icmp .ne 15, 3) := dk_160 0 15 (dk_at dksX2_findTable_3 7 rfl rfl)
theorem dX2_findTable_80 : decode cX2_findTable 80 = .ok (.aload_n 0, 1) := dk_42 (dk_at dksX2_findTable_3 10 rfl rfl)
theorem dX2_findTable_81 : decode cX2_findTable 81 = .ok (.iload_n 3, 1) := dk_29 (dk_at dksX2_findTable_3 11 rfl rfl)
theorem dX2_findTable_82 : decode cX2_findTable 82 = .ok (.invokevirtual 187, 3) := dk_182 0 187 (dk_at dksX2_findTable_3 12 rfl rfl)
theorem dX2_findTable_85 : decode cX2_findTable 85 = .ok (.ifCond .le 7, 3) := dk_158 0 7 (dk_at dksX2_findTable_3 15 rfl rfl)
theorem dX2_findTable_88 : decode cX2_findTable 88 = .ok (.iconst 1, 1) := dk_4 (dk_at dksX2_findTable_3 18 rfl rfl)
theorem dX2_findTable_89 : decode cX2_findTable 89 = .ok (.goto 4, 3) := dk_167 0 4 (dk_at dksX2_findTable_3 19 rfl rfl)
theorem dX2_findTable_92 : decode cX2_findTable 92 = .ok (.iconst 0, 1) := dk_3 (dk_at dksX2_findTable_3 22 rfl rfl)
theorem dX2_findTable_93 : decode cX2_findTable 93 = .ok (.istore 4, 2) := dk_54 4 (dk_at dksX2_findTable_4 0 rfl rfl)
theorem dX2_findTable_95 : decode cX2_findTable 95 = .ok (.iload 4, 2) := dk_21 4 (dk_at dksX2_findTable_4 2 rfl rfl)
theorem dX2_findTable_97 : decode cX2_findTable 97 = .ok (.ifCond .eq 26, 3) := dk_153 0 26 (dk_at dksX2_findTable_4 4 rfl rfl)
theorem dX2_findTable_100 : decode cX2_findTable 100 = .ok (.iload_n 2, 1) := dk_28 (dk_at dksX2_findTable_4 7 rfl rfl)
theorem dX2_findTable_101 : decode cX2_findTable 101 = .ok (.bipush (-4), 2) := dk_16 252 (dk_at dksX2_findTable_4 8 rfl rfl)
theorem dX2_findTable_103 : decode cX2_findTable 103 = .ok (.if_icmp .eq 16, 3) := dk_159 0 16 (dk_at dksX2_findTable_4 10 rfl rfl)
theorem dX2_findTable_106 : decode cX2_findTable 106 = .ok (.aload_n 0, 1) := dk_42 (dk_at dksX2_findTable_4 13 rfl rfl)
theorem dX2_findTable_107 : decode cX2_findTable 107 = .ok (.iload_n 3, 1) := dk_29 (dk_at dksX2_findTable_4 14 rfl rfl)
theorem dX2_findTable_108 : decode cX2_findTable 108 = .ok (.invokevirtual 187, 3) := dk_182 0 187 (dk_at dksX2_findTable_4 15 rfl rfl)
theorem dX2_findTable_111 : decode cX2_findTable 111 = .ok (.aload_n 0, 1) := dk_42 (dk_at dksX2_findTable_4 18 rfl rfl)
theorem dX2_findTable_112 : decode cX2_findTable 112 = .ok (.iload_n 2, 1) := dk_28 (dk_at dksX2_findTable_4 19 rfl rfl)
theorem dX2_findTable_113 : decode cX2_findTable 113 = .ok (.invokevirtual 187, 3) := dk_182 0 187 (dk_at dksX2_findTable_4 20 rfl rfl)
theorem dX2_findTable_116 : decode cX2_findTable 116 = .ok (.if_icmp .le 7, 3) := dk_164 0 7 (dk_at dksX2_findTable_5 0 rfl rfl)
theorem dX2_findTable_119 : decode cX2_findTable 119 = .ok (.iload_n 3, 1) := dk_29 (dk_at dksX2_findTable_5 3 rfl rfl)
theorem dX2_findTable_120 : decode cX2_findTable 120 = .ok (.goto 4, 3) := dk_167 0 4 (dk_at dksX2_findTable_5 4 rfl rfl)
theorem dX2_findTable_123 : decode cX2_findTable 123 = .ok (.iload_n 2, 1) := dk_28 (dk_at dksX2_findTable_5 7 rfl rfl)
theorem dX2_findTable_124 : decode cX2_findTable 124 = .ok (.istore_n 2, 1) := dk_61 (dk_at dksX2_findTable_5 8 rfl rfl)
theorem dX2_findTable_125 : decode cX2_findTable 125 = .ok (.iinc 3 1, 3) := dk_132 3 1 (dk_at dksX2_findTable_5 9 rfl rfl)
theorem dX2_findTable_128 : decode cX2_findTable 128 = .ok (.goto (-77), 3) := dk_167 255 179 (dk_at dksX2_findTable_5 12 rfl rfl)
theorem dX2_findTable_131 : decode cX2_findTable 131 = .ok (.iload_n 2, 1) := dk_28 (dk_at dksX2_findTable_5 15 rfl rfl)
theorem dX2_findTable_132 : decode cX2_findTable 132 = .ok (.bipush (-4), 2) := dk_16 252 (dk_at dksX2_findTable_5 16 rfl rfl)
theorem dX2_findTable_134 : decode cX2_findTable 134 = .ok (.if_icmp .eq 7, 3) := dk_159 0 7 (dk_at dksX2_findTable_5 18 rfl rfl)
theorem dX2_findTable_137 : decode cX2_findTable 137 = .ok (.iconst 1, 1) := dk_4 (dk_at dksX2_findTable_5 21 rfl rfl)
theorem dX2_findTable_138 : decode cX2_findTable 138 = .ok (.goto 4, 3) := dk_167 0 4 (dk_at dksX2_findTable_6 0 rfl rfl)
theorem dX2_findTable_141 : decode cX2_findTable 141 = .ok (.iconst 0, 1) := dk_3 (dk_at dksX2_findTable_6 3 rfl rfl)
theorem dX2_findTable_142 : decode cX2_findTable 142 = .ok (.istore_n 1, 1) := dk_60 (dk_at dksX2_findTable_6 4 rfl rfl)
theorem dX2_findTable_143 : decode cX2_findTable 143 = .ok (.iload_n 1, 1) := dk_27 (dk_at dksX2_findTable_6 5 rfl rfl)
theorem dX2_findTable_144 : decode cX2_findTable 144 = .ok (.ifCond .eq 33, 3) := dk_153 0 33 (dk_at dksX2_findTable_6 6 rfl rfl)
theorem dX2_findTable_147 : decode cX2_findTable 147 = .ok (.aload_n 0, 1) := dk_42 (dk_at dksX2_findTable_6 9 rfl rfl)
theorem dX2_findTable_148 : decode cX2_findTable 148 = .ok (.getfield 87, 3) := dk_180 0 87 (dk_at dksX2_findTable_6 10 rfl rfl)
theorem dX2_findTable_151 : decode cX2_findTable 151 = .ok (.aload_n 0, 1) := dk_42 (dk_at dksX2_findTable_6 13 rfl rfl)
theorem dX2_findTable_152 : decode cX2_findTable 152 = .ok (.getfield 282, 3) := dk_180 1 26 (dk_at dksX2_findTable_6 14 rfl rfl)
theorem dX2_findTable_155 : decode cX2_findTable 155 = .ok (.iload_n 2, 1) := dk_28 (dk_at dksX2_findTable_6 17 rfl rfl)
theorem dX2_findTable_156 : decode cX2_findTable 156 = .ok (.iastore, 1) := dk_79 (dk_at dksX2_findTable_6 18 rfl rfl)
theorem dX2_findTable_157 : decode cX2_findTable 157 = .ok (.aload_n 0, 1) := dk_42 (dk_at dksX2_findTable_6 19 rfl rfl)
theorem dX2_findTable_158 : decode cX2_findTable 158 = .ok (.getfield 90, 3) := dk_180 0 90 (dk_at dksX2_findTable_6 20 rfl rfl)
theorem dX2_findTable_161 : decode cX2_findTable 161 = .ok (.iload_n 2, 1) := dk_28 (dk_at dksX2_findTable_6 23 rfl rfl)
theorem dX2_findTable_162 : decode cX2_findTable 162 = .ok (.aload_n 0, 1) := dk_42 (dk_at dksX2_findTable_7 0 rfl rfl)
theorem dX2_findTable_163 : decode cX2_findTable 163 = .ok (.getfield 282, 3) := dk_180 1 26 (dk_at dksX2_findTable_7 1 rfl rfl)
theorem dX2_findTable_166 : decode cX2_findTable 166 = .ok (.iastore, 1) := dk_79 (dk_at dksX2_findTable_7 4 rfl rfl)
theorem dX2_findTable_167 : decode cX2_findTable 167 = .ok (.aload_n 0, 1) := dk_42 (dk_at dksX2_findTable_7 5 rfl rfl)
theorem dX2_findTable_168 : decode cX2_findTable 168 = .ok (.dup, 1) := dk_89 (dk_at dksX2_findTable_7 6 rfl rfl)
theorem dX2_findTable_169 : decode cX2_findTable 169 = .ok (.getfield 282, 3) := dk_180 1 26 (dk_at dksX2_findTable_7 7 rfl rfl)
theorem dX2_findTable_172 : decode cX2_findTable 172 = .ok (.iconst 1, 1) := dk_4 (dk_at dksX2_findTable_7 10 rfl rfl)
theorem dX2_findTable_173 : decode cX2_findTable 173 = .ok (.iadd, 1) := dk_96 (dk_at dksX2_findTable_7 11 rfl rfl)
theorem dX2_findTable_174 : decode cX2_findTable 174 = .ok (.putfield 282, 3) := dk_181 1 26 (dk_at dksX2_findTable_7 12 rfl rfl)
theorem dX2_findTable_177 : decode cX2_findTable 177 = .ok (.goto (-144), 3) := dk_167 255 112 (dk_at dksX2_findTable_7 15 rfl rfl)
theorem dX2_findTable_180 : decode cX2_findTable 180 = .ok (.return_, 1) := dk_177 (dk_at dksX2_findTable_7 18 rfl rfl)
abbrev cX2_read : ByteArray := prog_11_method_58_code
def yX2_read : MethodName := ⟨RX2, "read", "(II)I"⟩
def dkwX2_read_2 : List UInt8 := [172]
abbrev dktX2_read_2 : List UInt8 := dkwX2_read_2 ++ []
def dkwX2_read_1 : List UInt8 := [100, 133, 184, 0, 138, 154, 0, 5, 2, 172, 42, 182, 1, 38, 42, 27, 182, 1, 41, 42, 28, 182, 1, 44]
abbrev dktX2_read_1 : List UInt8 := dkwX2_read_1 ++ dktX2_read_2
def dkwX2_read_0 : List UInt8 := [42, 182, 1, 29, 42, 27, 182, 1, 35, 153, 0, 23, 28, 133, 9, 4, 5, 42, 180, 1, 26, 104, 120, 4]
abbrev dktX2_read_0 : List UInt8 := dkwX2_read_0 ++ dktX2_read_1
theorem dksX2_read_0 : cX2_read.data.toList.drop 0 = dktX2_read_0 := by decide +kernel
theorem dksX2_read_1 : cX2_read.data.toList.drop 24 = dktX2_read_1 := dk_seg dksX2_read_0 24 rfl rfl
theorem dksX2_read_2 : cX2_read.data.toList.drop 48 = dktX2_read_2 := dk_seg dksX2_read_1 24 rfl rfl
theorem dX2_read_0 : decode cX2_read 0 = .ok (.aload_n 0, 1) := dk_42 (dk_at dksX2_read_0 0 rfl rfl)
theorem dX2_read_1 : decode cX2_read 1 = .ok (.invokevirtual 285, 3) := dk_182 1 29 (dk_at dksX2_read_0 1 rfl rfl)
theorem dX2_read_4 : decode cX2_read 4 = .ok (.aload_n 0, 1) := dk_42 (dk_at dksX2_read_0 4 rfl rfl)
theorem dX2_read_5 : decode cX2_read 5 = .ok (.iload_n 1, 1) := dk_27 (dk_at dksX2_read_0 5 rfl rfl)
theorem dX2_read_6 : decode cX2_read 6 = .ok (.invokevirtual 291, 3) := dk_182 1 35 (dk_at dksX2_read_0 6 rfl rfl)
theorem dX2_read_9 : decode cX2_read 9 = .ok (.ifCond .eq 23, 3) := dk_153 0 23 (dk_at dksX2_read_0 9 rfl rfl)
theorem dX2_read_12 : decode cX2_read 12 = .ok (.iload_n 2, 1) := dk_28 (dk_at dksX2_read_0 12 rfl rfl)
theorem dX2_read_13 : decode cX2_read 13 = .ok (.i2l, 1) := dk_133 (dk_at dksX2_read_0 13 rfl rfl)
theorem dX2_read_14 : decode cX2_read 14 = .ok (.lconst 0, 1) := dk_9 (dk_at dksX2_read_0 14 rfl rfl)
theorem dX2_read_15 : decode cX2_read 15 = .ok (.iconst 1, 1) := dk_4 (dk_at dksX2_read_0 15 rfl rfl)
theorem dX2_read_16 : decode cX2_read 16 = .ok (.iconst 2, 1) := dk_5 (dk_at dksX2_read_0 16 rfl rfl)
theorem dX2_read_17 : decode cX2_read 17 = .ok (.aload_n 0, 1) := dk_42 (dk_at dksX2_read_0 17 rfl rfl)
theorem dX2_read_18 : decode cX2_read 18 = .ok (.getfield 282, 3) := dk_180 1 26 (dk_at dksX2_read_0 18 rfl rfl)
theorem dX2_read_21 : decode cX2_read 21 = .ok (.imul, 1) := dk_104 (dk_at dksX2_read_0 21 rfl rfl)
theorem dX2_read_22 : decode cX2_read 22 = .ok (.ishl, 1) := dk_120 (dk_at dksX2_read_0 22 rfl rfl)
theorem dX2_read_23 : decode cX2_read 23 = .ok (.iconst 1, 1) := dk_4 (dk_at dksX2_read_0 23 rfl rfl)
theorem dX2_read_24 : decode cX2_read 24 = .ok (.isub, 1) := dk_100 (dk_at dksX2_read_1 0 rfl rfl)
theorem dX2_read_25 : decode cX2_read 25 = .ok (.i2l, 1) := dk_133 (dk_at dksX2_read_1 1 rfl rfl)
theorem dX2_read_26 : decode cX2_read 26 = .ok (.invokestatic 138, 3) := dk_184 0 138 (dk_at dksX2_read_1 2 rfl rfl)
theorem dX2_read_29 : decode cX2_read 29 = .ok (.ifCond .ne 5, 3) := dk_154 0 5 (dk_at dksX2_read_1 5 rfl rfl)
theorem dX2_read_32 : decode cX2_read 32 = .ok (.iconst (-1), 1) := dk_2 (dk_at dksX2_read_1 8 rfl rfl)
theorem dX2_read_33 : decode cX2_read 33 = .ok (.ireturn, 1) := dk_172 (dk_at dksX2_read_1 9 rfl rfl)
theorem dX2_read_34 : decode cX2_read 34 = .ok (.aload_n 0, 1) := dk_42 (dk_at dksX2_read_1 10 rfl rfl)
theorem dX2_read_35 : decode cX2_read 35 = .ok (.invokevirtual 294, 3) := dk_182 1 38 (dk_at dksX2_read_1 11 rfl rfl)
theorem dX2_read_38 : decode cX2_read 38 = .ok (.aload_n 0, 1) := dk_42 (dk_at dksX2_read_1 14 rfl rfl)
theorem dX2_read_39 : decode cX2_read 39 = .ok (.iload_n 1, 1) := dk_27 (dk_at dksX2_read_1 15 rfl rfl)
theorem dX2_read_40 : decode cX2_read 40 = .ok (.invokevirtual 297, 3) := dk_182 1 41 (dk_at dksX2_read_1 16 rfl rfl)
theorem dX2_read_43 : decode cX2_read 43 = .ok (.aload_n 0, 1) := dk_42 (dk_at dksX2_read_1 19 rfl rfl)
theorem dX2_read_44 : decode cX2_read 44 = .ok (.iload_n 2, 1) := dk_28 (dk_at dksX2_read_1 20 rfl rfl)
theorem dX2_read_45 : decode cX2_read 45 = .ok (.invokevirtual 300, 3) := dk_182 1 44 (dk_at dksX2_read_1 21 rfl rfl)
theorem dX2_read_48 : decode cX2_read 48 = .ok (.ireturn, 1) := dk_172 (dk_at dksX2_read_2 0 rfl rfl)
abbrev cX2_areTexts : ByteArray := prog_11_method_57_code
def yX2_areTexts : MethodName := ⟨RX2, "areTexts", "(I)Z"⟩
def dkwX2_areTexts_0 : List UInt8 := [27, 133, 9, 4, 42, 180, 0, 164, 120, 4, 100, 133, 184, 0, 138, 172]
abbrev dktX2_areTexts_0 : List UInt8 := dkwX2_areTexts_0 ++ []
theorem dksX2_areTexts_0 : cX2_areTexts.data.toList.drop 0 = dktX2_areTexts_0 := by decide +kernel
theorem dX2_areTexts_0 : decode cX2_areTexts 0 = .ok (.iload_n 1, 1) := dk_27 (dk_at dksX2_areTexts_0 0 rfl rfl)
theorem dX2_areTexts_1 : decode cX2_areTexts 1 = .ok (.i2l, 1) := dk_133 (dk_at dksX2_areTexts_0 1 rfl rfl)
theorem dX2_areTexts_2 : decode cX2_areTexts 2 = .ok (.lconst 0, 1) := dk_9 (dk_at dksX2_areTexts_0 2 rfl rfl)
theorem dX2_areTexts_3 : decode cX2_areTexts 3 = .ok (.iconst 1, 1) := dk_4 (dk_at dksX2_areTexts_0 3 rfl rfl)
theorem dX2_areTexts_4 : decode cX2_areTexts 4 = .ok (.aload_n 0, 1) := dk_42 (dk_at dksX2_areTexts_0 4 rfl rfl)
theorem dX2_areTexts_5 : decode cX2_areTexts 5 = .ok (.getfield 164, 3) := dk_180 0 164 (dk_at dksX2_areTexts_0 5 rfl rfl)
theorem dX2_areTexts_8 : decode cX2_areTexts 8 = .ok (.ishl, 1) := dk_120 (dk_at dksX2_areTexts_0 8 rfl rfl)
theorem dX2_areTexts_9 : decode cX2_areTexts 9 = .ok (.iconst 1, 1) := dk_4 (dk_at dksX2_areTexts_0 9 rfl rfl)
theorem dX2_areTexts_10 : decode cX2_areTexts 10 = .ok (.isub, 1) := dk_100 (dk_at dksX2_areTexts_0 10 rfl rfl)
theorem dX2_areTexts_11 : decode cX2_areTexts 11 = .ok (.i2l, 1) := dk_133 (dk_at dksX2_areTexts_0 11 rfl rfl)
theorem dX2_areTexts_12 : decode cX2_areTexts 12 = .ok (.invokestatic 138, 3) := dk_184 0 138 (dk_at dksX2_areTexts_0 12 rfl rfl)
theorem dX2_areTexts_15 : decode cX2_areTexts 15 = .ok (.ireturn, 1) := dk_172 (dk_at dksX2_areTexts_0 15 rfl rfl)
abbrev cX2_findTongue : ByteArray := prog_11_method_54_code
def yX2_findTongue : MethodName := ⟨RX2, "findTongue", "()V"⟩
def dkwX2_findTongue_2 : List UInt8 := [180, 0, 84, 27, 46, 96, 4, 84, 132, 1, 1, 167, 255, 222, 177]
abbrev dktX2_findTongue_2 : List UInt8 := dkwX2_findTongue_2 ++ []
def dkwX2_findTongue_1 : List UInt8 := [27, 42, 180, 1, 23, 162, 0, 32, 42, 180, 0, 99, 17, 16, 0, 42, 180, 0, 81, 27, 46, 104, 42]
abbrev dktX2_findTongue_1 : List UInt8 := dkwX2_findTongue_1 ++ dktX2_findTongue_2
def dkwX2_findTongue_0 : List UInt8 := [3, 60, 27, 17, 112, 0, 162, 0, 16, 42, 180, 0, 99, 27, 3, 84, 132, 1, 1, 167, 255, 239, 3, 60]
abbrev dktX2_findTongue_0 : List UInt8 := dkwX2_findTongue_0 ++ dktX2_findTongue_1
theorem dksX2_findTongue_0 : cX2_findTongue.data.toList.drop 0 = dktX2_findTongue_0 := by decide +kernel
theorem dksX2_findTongue_1 : cX2_findTongue.data.toList.drop 24 = dktX2_findTongue_1 := dk_seg dksX2_findTongue_0 24 rfl rfl
theorem dksX2_findTongue_2 : cX2_findTongue.data.toList.drop 47 = dktX2_findTongue_2 := dk_seg dksX2_findTongue_1 23 rfl rfl
theorem dX2_findTongue_0 : decode cX2_findTongue 0 = .ok (.iconst 0, 1) := dk_3 (dk_at dksX2_findTongue_0 0 rfl rfl)
theorem dX2_findTongue_1 : decode cX2_findTongue 1 = .ok (.istore_n 1, 1) := dk_60 (dk_at dksX2_findTongue_0 1 rfl rfl)
theorem dX2_findTongue_2 : decode cX2_findTongue 2 = .ok (.iload_n 1, 1) := dk_27 (dk_at dksX2_findTongue_0 2 rfl rfl)
theorem dX2_findTongue_3 : decode cX2_findTongue 3 = .ok (.sipush 28672, 3) := dk_17 112 0 (dk_at dksX2_findTongue_0 3 rfl rfl)
theorem dX2_findTongue_6 : decode cX2_findTongue 6 = .ok (.if_icmp .ge 16, 3) := dk_162 0 16 (dk_at dksX2_findTongue_0 6 rfl rfl)
theorem dX2_findTongue_9 : decode cX2_findTongue 9 = .ok (.aload_n 0, 1) := dk_42 (dk_at dksX2_findTongue_0 9 rfl rfl)
theorem dX2_findTongue_10 : decode cX2_findTongue 10 = .ok (.getfield 99, 3) := dk_180 0 99 (dk_at dksX2_findTongue_0 10 rfl rfl)
theorem dX2_findTongue_13 : decode cX2_findTongue 13 = .ok (.iload_n 1, 1) := dk_27 (dk_at dksX2_findTongue_0 13 rfl rfl)
theorem dX2_findTongue_14 : decode cX2_findTongue 14 = .ok (.iconst 0, 1) := dk_3 (dk_at dksX2_findTongue_0 14 rfl rfl)
theorem dX2_findTongue_15 : decode cX2_findTongue 15 = .ok (.bastore, 1) := dk_84 (dk_at dksX2_findTongue_0 15 rfl rfl)
theorem dX2_findTongue_16 : decode cX2_findTongue 16 = .ok (.iinc 1 1, 3) := dk_132 1 1 (dk_at dksX2_findTongue_0 16 rfl rfl)
theorem dX2_findTongue_19 : decode cX2_findTongue 19 = .ok (.goto (-17), 3) := dk_167 255 239 (dk_at dksX2_findTongue_0 19 rfl rfl)
theorem dX2_findTongue_22 : decode cX2_findTongue 22 = .ok (.iconst 0, 1) := dk_3 (dk_at dksX2_findTongue_0 22 rfl rfl)
theorem dX2_findTongue_23 : decode cX2_findTongue 23 = .ok (.istore_n 1, 1) := dk_60 (dk_at dksX2_findTongue_0 23 rfl rfl)
theorem dX2_findTongue_24 : decode cX2_findTongue 24 = .ok (.iload_n 1, 1) := dk_27 (dk_at dksX2_findTongue_1 0 rfl rfl)
theorem dX2_findTongue_25 : decode cX2_findTongue 25 = .ok (.aload_n 0, 1) := dk_42 (dk_at dksX2_findTongue_1 1 rfl rfl)
theorem dX2_findTongue_26 : decode cX2_findTongue 26 = .ok (.getfield 279, 3) := dk_180 1 23 (dk_at dksX2_findTongue_1 2 rfl rfl)
theorem dX2_findTongue_29 : decode cX2_findTongue 29 = .ok (.if_icmp .ge 32, 3) := dk_162 0 32 (dk_at dksX2_findTongue_1 5 rfl rfl)
theorem dX2_findTongue_32 : decode cX2_findTongue 32 = .ok (.aload_n 0, 1) := dk_42 (dk_at dksX2_findTongue_1 8 rfl rfl)
theorem dX2_findTongue_33 : decode cX2_findTongue 33 = .ok (.getfield 99, 3) := dk_180 0 99 (dk_at dksX2_findTongue_1 9 rfl rfl)
theorem dX2_findTongue_36 : decode cX2_findTongue 36 = .ok (.sipush 4096, 3) := dk_17 16 0 (dk_at dksX2_findTongue_1 12 rfl rfl)
theorem dX2_findTongue_39 : decode cX2_findTongue 39 = .ok (.aload_n 0, 1) := dk_42 (dk_at dksX2_findTongue_1 15 rfl rfl)
theorem dX2_findTongue_40 : decode cX2_findTongue 40 = .ok (.getfield 81, 3) := dk_180 0 81 (dk_at dksX2_findTongue_1 16 rfl rfl)
theorem dX2_findTongue_43 : decode cX2_findTongue 43 = .ok (.iload_n 1, 1) := dk_27 (dk_at dksX2_findTongue_1 19 rfl rfl)
theorem dX2_findTongue_44 : decode cX2_findTongue 44 = .ok (.iaload, 1) := dk_46 (dk_at dksX2_findTongue_1 20 rfl rfl)
theorem dX2_findTongue_45 : decode cX2_findTongue 45 = .ok (.imul, 1) := dk_104 (dk_at dksX2_findTongue_1 21 rfl rfl)
theorem dX2_findTongue_46 : decode cX2_findTongue 46 = .ok (.aload_n 0, 1) := dk_42 (dk_at dksX2_findTongue_1 22 rfl rfl)
theorem dX2_findTongue_47 : decode cX2_findTongue 47 = .ok (.getfield 84, 3) := dk_180 0 84 (dk_at dksX2_findTongue_2 0 rfl rfl)
theorem dX2_findTongue_50 : decode cX2_findTongue 50 = .ok (.iload_n 1, 1) := dk_27 (dk_at dksX2_findTongue_2 3 rfl rfl)
theorem dX2_findTongue_51 : decode cX2_findTongue 51 = .ok (.iaload, 1) := dk_46 (dk_at dksX2_findTongue_2 4 rfl rfl)
theorem dX2_findTongue_52 : decode cX2_findTongue 52 = .ok (.iadd, 1) := dk_96 (dk_at dksX2_findTongue_2 5 rfl rfl)
theorem dX2_findTongue_53 : decode cX2_findTongue 53 = .ok (.iconst 1, 1) := dk_4 (dk_at dksX2_findTongue_2 6 rfl rfl)
theorem dX2_findTongue_54 : decode cX2_findTongue 54 = .ok (.bastore, 1) := dk_84 (dk_at dksX2_findTongue_2 7 rfl rfl)
theorem dX2_findTongue_55 : decode cX2_findTongue 55 = .ok (.iinc 1 1, 3) := dk_132 1 1 (dk_at dksX2_findTongue_2 8 rfl rfl)
theorem dX2_findTongue_58 : decode cX2_findTongue 58 = .ok (.goto (-34), 3) := dk_167 255 222 (dk_at dksX2_findTongue_2 11 rfl rfl)
theorem dX2_findTongue_61 : decode cX2_findTongue 61 = .ok (.return_, 1) := dk_177 (dk_at dksX2_findTongue_2 14 rfl rfl)
abbrev cX2_findReadable : ByteArray := prog_11_method_55_code
def yX2_findReadable : MethodName := ⟨RX2, "findReadable", "(I)V"⟩
def dkwX2_findReadable_7 : List UInt8 := [180, 1, 32, 4, 96, 181, 1, 32, 132, 2, 1, 167, 255, 93, 177]
abbrev dktX2_findReadable_7 : List UInt8 := dkwX2_findReadable_7 ++ []
def dkwX2_findReadable_6 : List UInt8 := [180, 1, 32, 42, 180, 0, 32, 28, 46, 79, 42, 180, 0, 96, 42, 180, 1, 32, 21, 4, 79, 42, 89]
abbrev dktX2_findReadable_6 : List UInt8 := dkwX2_findReadable_6 ++ dktX2_findReadable_7
def dkwX2_findReadable_5 : List UInt8 := [167, 0, 4, 3, 96, 54, 4, 132, 5, 1, 167, 255, 193, 29, 153, 0, 39, 42, 180, 0, 93, 42]
abbrev dktX2_findReadable_5 : List UInt8 := dkwX2_findReadable_5 ++ dktX2_findReadable_6
def dkwX2_findReadable_4 : List UInt8 := [16, 252, 159, 0, 7, 4, 167, 0, 4, 3, 62, 16, 8, 21, 4, 104, 29, 153, 0, 8, 21, 6]
abbrev dktX2_findReadable_4 : List UInt8 := dkwX2_findReadable_4 ++ dktX2_findReadable_5
def dkwX2_findReadable_3 : List UInt8 := [162, 0, 58, 29, 153, 0, 54, 42, 180, 0, 90, 42, 28, 21, 5, 182, 0, 200, 46, 54, 6, 21, 6]
abbrev dktX2_findReadable_3 : List UInt8 := dkwX2_findReadable_3 ++ dktX2_findReadable_4
def dkwX2_findReadable_2 : List UInt8 := [160, 0, 7, 4, 167, 0, 4, 3, 62, 3, 54, 4, 3, 54, 5, 21, 5, 42, 180, 0, 32, 28, 46]
abbrev dktX2_findReadable_2 : List UInt8 := dkwX2_findReadable_2 ++ dktX2_findReadable_3
def dkwX2_findReadable_1 : List UInt8 := [42, 180, 0, 32, 28, 46, 16, 6, 163, 0, 21, 27, 42, 180, 0, 26, 28, 46, 122, 4, 126, 4]
abbrev dktX2_findReadable_1 : List UInt8 := dkwX2_findReadable_1 ++ dktX2_findReadable_2
def dkwX2_findReadable_0 : List UInt8 := [42, 3, 181, 1, 32, 3, 61, 28, 42, 180, 0, 167, 162, 0, 161, 42, 180, 0, 35, 28, 51, 153, 0, 32]
abbrev dktX2_findReadable_0 : List UInt8 := dkwX2_findReadable_0 ++ dktX2_findReadable_1
theorem dksX2_findReadable_0 : cX2_findReadable.data.toList.drop 0 = dktX2_findReadable_0 := by decide +kernel
theorem dksX2_findReadable_1 : cX2_findReadable.data.toList.drop 24 = dktX2_findReadable_1 := dk_seg dksX2_findReadable_0 24 rfl rfl
theorem dksX2_findReadable_2 : cX2_findReadable.data.toList.drop 46 = dktX2_findReadable_2 := dk_seg dksX2_findReadable_1 22 rfl rfl
theorem dksX2_findReadable_3 : cX2_findReadable.data.toList.drop 69 = dktX2_findReadable_3 := dk_seg dksX2_findReadable_2 23 rfl rfl
theorem dksX2_findReadable_4 : cX2_findReadable.data.toList.drop 92 = dktX2_findReadable_4 := dk_seg dksX2_findReadable_3 23 rfl rfl
theorem dksX2_findReadable_5 : cX2_findReadable.data.toList.drop 114 = dktX2_findReadable_5 := dk_seg dksX2_findReadable_4 22 rfl rfl
theorem dksX2_findReadable_6 : cX2_findReadable.data.toList.drop 136 = dktX2_findReadable_6 := dk_seg dksX2_findReadable_5 22 rfl rfl
theorem dksX2_findReadable_7 : cX2_findReadable.data.toList.drop 159 = dktX2_findReadable_7 := dk_seg dksX2_findReadable_6 23 rfl rfl
theorem dX2_findReadable_0 : decode cX2_findReadable 0 = .ok (.aload_n 0, 1) := dk_42 (dk_at dksX2_findReadable_0 0 rfl rfl)
theorem dX2_findReadable_1 : decode cX2_findReadable 1 = .ok (.iconst 0, 1) := dk_3 (dk_at dksX2_findReadable_0 1 rfl rfl)
theorem dX2_findReadable_2 : decode cX2_findReadable 2 = .ok (.putfield 288, 3) := dk_181 1 32 (dk_at dksX2_findReadable_0 2 rfl rfl)
theorem dX2_findReadable_5 : decode cX2_findReadable 5 = .ok (.iconst 0, 1) := dk_3 (dk_at dksX2_findReadable_0 5 rfl rfl)
theorem dX2_findReadable_6 : decode cX2_findReadable 6 = .ok (.istore_n 2, 1) := dk_61 (dk_at dksX2_findReadable_0 6 rfl rfl)
theorem dX2_findReadable_7 : decode cX2_findReadable 7 = .ok (.iload_n 2, 1) := dk_28 (dk_at dksX2_findReadable_0 7 rfl rfl)
theorem dX2_findReadable_8 : decode cX2_findReadable 8 = .ok (.aload_n 0, 1) := dk_42 (dk_at dksX2_findReadable_0 8 rfl rfl)
theorem dX2_findReadable_9 : decode cX2_findReadable 9 = .ok (.getfield 167, 3) := dk_180 0 167 (dk_at dksX2_findReadable_0 9 rfl rfl)
theorem dX2_findReadable_12 : decode cX2_findReadable 12 = .ok (.if_icmp .ge 161, 3) := dk_162 0 161 (dk_at dksX2_findReadable_0 12 rfl rfl)
theorem dX2_findReadable_15 : decode cX2_findReadable 15 = .ok (.aload_n 0, 1) := dk_42 (dk_at dksX2_findReadable_0 15 rfl rfl)
theorem dX2_findReadable_16 : decode cX2_findReadable 16 = .ok (.getfield 35, 3) := dk_180 0 35 (dk_at dksX2_findReadable_0 16 rfl rfl)
theorem dX2_findReadable_19 : decode cX2_findReadable 19 = .ok (.iload_n 2, 1) := dk_28 (dk_at dksX2_findReadable_0 19 rfl rfl)
theorem dX2_findReadable_20 : decode cX2_findReadable 20 = .ok (.baload, 1) := dk_51 (dk_at dksX2_findReadable_0 20 rfl rfl)
theorem dX2_findReadable_21 : decode cX2_findReadable 21 = .ok (.ifCond .eq 32, 3) := dk_153 0 32 (dk_at dksX2_findReadable_0 21 rfl rfl)
theorem dX2_findReadable_24 : decode cX2_findReadable 24 = .ok (.aload_n 0, 1) := dk_42 (dk_at dksX2_findReadable_1 0 rfl rfl)
theorem dX2_findReadable_25 : decode cX2_findReadable 25 = .ok (.getfield 32, 3) := dk_180 0 32 (dk_at dksX2_findReadable_1 1 rfl rfl)
theorem dX2_findReadable_28 : decode cX2_findReadable 28 = .ok (.iload_n 2, 1) := dk_28 (dk_at dksX2_findReadable_1 4 rfl rfl)
theorem dX2_findReadable_29 : decode cX2_findReadable 29 = .ok (.iaload, 1) := dk_46 (dk_at dksX2_findReadable_1 5 rfl rfl)
theorem dX2_findReadable_30 : decode cX2_findReadable 30 = .ok (.bipush 6, 2) := dk_16 6 (dk_at dksX2_findReadable_1 6 rfl rfl)
theorem dX2_findReadable_32 : decode cX2_findReadable 32 = .ok (.if_icmp .gt 21, 3) := dk_163 0 21 (dk_at dksX2_findReadable_1 8 rfl rfl)
theorem dX2_findReadable_35 : decode cX2_findReadable 35 = .ok (.iload_n 1, 1) := dk_27 (dk_at dksX2_findReadable_1 11 rfl rfl)
theorem dX2_findReadable_36 : decode cX2_findReadable 36 = .ok (.aload_n 0, 1) := dk_42 (dk_at dksX2_findReadable_1 12 rfl rfl)
theorem dX2_findReadable_37 : decode cX2_findReadable 37 = .ok (.getfield 26, 3) := dk_180 0 26 (dk_at dksX2_findReadable_1 13 rfl rfl)
theorem dX2_findReadable_40 : decode cX2_findReadable 40 = .ok (.iload_n 2, 1) := dk_28 (dk_at dksX2_findReadable_1 16 rfl rfl)
theorem dX2_findReadable_41 : decode cX2_findReadable 41 = .ok (.iaload, 1) := dk_46 (dk_at dksX2_findReadable_1 17 rfl rfl)
theorem dX2_findReadable_42 : decode cX2_findReadable 42 = .ok (.ishr, 1) := dk_122 (dk_at dksX2_findReadable_1 18 rfl rfl)
theorem dX2_findReadable_43 : decode cX2_findReadable 43 = .ok (.iconst 1, 1) := dk_4 (dk_at dksX2_findReadable_1 19 rfl rfl)
theorem dX2_findReadable_44 : decode cX2_findReadable 44 = .ok (.iand, 1) := dk_126 (dk_at dksX2_findReadable_1 20 rfl rfl)
theorem dX2_findReadable_45 : decode cX2_findReadable 45 = .ok (.iconst 1, 1) := dk_4 (dk_at dksX2_findReadable_1 21 rfl rfl)
theorem dX2_findReadable_46 : decode cX2_findReadable 46 = .ok (.if_icmp .ne 7, 3) := dk_160 0 7 (dk_at dksX2_findReadable_2 0 rfl rfl)
theorem dX2_findReadable_49 : decode cX2_findReadable 49 = .ok (.iconst 1, 1) := dk_4 (dk_at dksX2_findReadable_2 3 rfl rfl)
theorem dX2_findReadable_50 : decode cX2_findReadable 50 = .ok (.goto 4, 3) := dk_167 0 4 (dk_at dksX2_findReadable_2 4 rfl rfl)
theorem dX2_findReadable_53 : decode cX2_findReadable 53 = .ok (.iconst 0, 1) := dk_3 (dk_at dksX2_findReadable_2 7 rfl rfl)
theorem dX2_findReadable_54 : decode cX2_findReadable 54 = .ok (.istore_n 3, 1) := dk_62 (dk_at dksX2_findReadable_2 8 rfl rfl)
theorem dX2_findReadable_55 : decode cX2_findReadable 55 = .ok (.iconst 0, 1) := dk_3 (dk_at dksX2_findReadable_2 9 rfl rfl)
theorem dX2_findReadable_56 : decode cX2_findReadable 56 = .ok (.istore 4, 2) := dk_54 4 (dk_at dksX2_findReadable_2 10 rfl rfl)
theorem dX2_findReadable_58 : decode cX2_findReadable 58 = .ok (.iconst 0, 1) := dk_3 (dk_at dksX2_findReadable_2 12 rfl rfl)
theorem dX2_findReadable_59 : decode cX2_findReadable 59 = .ok (.istore 5, 2) := dk_54 5 (dk_at dksX2_findReadable_2 13 rfl rfl)
theorem dX2_findReadable_61 : decode cX2_findReadable 61 = .ok (.iload 5, 2) := dk_21 5 (dk_at dksX2_findReadable_2 15 rfl rfl)
theorem dX2_findReadable_63 : decode cX2_findReadable 63 = .ok (.aload_n 0, 1) := dk_42 (dk_at dksX2_findReadable_2 17 rfl rfl)
theorem dX2_findReadable_64 : decode cX2_findReadable 64 = .ok (.getfield 32, 3) := dk_180 0 32 (dk_at dksX2_findReadable_2 18 rfl rfl)
theorem dX2_findReadable_67 : decode cX2_findReadable 67 = .ok (.iload_n 2, 1) := dk_28 (dk_at dksX2_findReadable_2 21 rfl rfl)
theorem dX2_findReadable_68 : decode cX2_findReadable 68 = .ok (.iaload, 1) := dk_46 (dk_at dksX2_findReadable_2 22 rfl rfl)
theorem dX2_findReadable_69 : decode cX2_findReadable 69 = .ok (.if_icmp .ge 58, 3) := dk_162 0 58 (dk_at dksX2_findReadable_3 0 rfl rfl)
theorem dX2_findReadable_72 : decode cX2_findReadable 72 = .ok (.iload_n 3, 1) := dk_29 (dk_at dksX2_findReadable_3 3 rfl rfl)
theorem dX2_findReadable_73 : decode cX2_findReadable 73 = .ok (.ifCond .eq 54, 3) := dk_153 0 54 (dk_at dksX2_findReadable_3 4 rfl rfl)
theorem dX2_findReadable_76 : decode cX2_findReadable 76 = .ok (.aload_n 0, 1) := dk_42 (dk_at dksX2_findReadable_3 7 rfl rfl)
theorem dX2_findReadable_77 : decode cX2_findReadable 77 = .ok (.getfield 90, 3) := dk_180 0 90 (dk_at dksX2_findReadable_3 8 rfl rfl)
theorem dX2_findReadable_80 : decode cX2_findReadable 80 = .ok (.aload_n 0, 1) := dk_42 (dk_at dksX2_findReadable_3 11 rfl rfl)
theorem dX2_findReadable_81 : decode cX2_findReadable 81 = .ok (.iload_n 2, 1) := dk_28 (dk_at dksX2_findReadable_3 12 rfl rfl)
theorem dX2_findReadable_82 : decode cX2_findReadable 82 = .ok (.iload 5, 2) := dk_21 5 (dk_at dksX2_findReadable_3 13 rfl rfl)
theorem dX2_findReadable_84 : decode cX2_findReadable 84 = .ok (.invokevirtual 200, 3) := dk_182 0 200 (dk_at dksX2_findReadable_3 15 rfl rfl)
theorem dX2_findReadable_87 : decode cX2_findReadable 87 = .ok (.iaload, 1) := dk_46 (dk_at dksX2_findReadable_3 18 rfl rfl)
theorem dX2_findReadable_88 : decode cX2_findReadable 88 = .ok (.istore 6, 2) := dk_54 6 (dk_at dksX2_findReadable_3 19 rfl rfl)
theorem dX2_findReadable_90 : decode cX2_findReadable 90 = .ok (.iload 6, 2) := dk_21 6 (dk_at dksX2_findReadable_3 21 rfl rfl)
theorem dX2_findReadable_92 : decode cX2_findReadable 92 = .ok (.bipush (-4), 2) := dk_16 252 (dk_at dksX2_findReadable_4 0 rfl rfl)
theorem dX2_findReadable_94 : decode cX2_findReadable 94 = .ok (.if_icmp .eq 7, 3) := dk_159 0 7 (dk_at dksX2_findReadable_4 2 rfl rfl)
theorem dX2_findReadable_97 : decode cX2_findReadable 97 = .ok (.iconst 1, 1) := dk_4 (dk_at dksX2_findReadable_4 5 rfl rfl)
theorem dX2_findReadable_98 : decode cX2_findReadable 98 = .ok (.goto 4, 3) := dk_167 0 4 (dk_at dksX2_findReadable_4 6 rfl rfl)
theorem dX2_findReadable_101 : decode cX2_findReadable 101 = .ok (.iconst 0, 1) := dk_3 (dk_at dksX2_findReadable_4 9 rfl rfl)
theorem dX2_findReadable_102 : decode cX2_findReadable 102 = .ok (.istore_n 3, 1) := dk_62 (dk_at dksX2_findReadable_4 10 rfl rfl)
theorem dX2_findReadable_103 : decode cX2_findReadable 103 = .ok (.bipush 8, 2) := dk_16 8 (dk_at dksX2_findReadable_4 11 rfl rfl)
theorem dX2_findReadable_105 : decode cX2_findReadable 105 = .ok (.iload 4, 2) := dk_21 4 (dk_at dksX2_findReadable_4 13 rfl rfl)
theorem dX2_findReadable_107 : decode cX2_findReadable 107 = .ok (.imul, 1) := dk_104 (dk_at dksX2_findReadable_4 15 rfl rfl)
theorem dX2_findReadable_108 : decode cX2_findReadable 108 = .ok (.iload_n 3, 1) := dk_29 (dk_at dksX2_findReadable_4 16 rfl rfl)
theorem dX2_findReadable_109 : decode cX2_findReadable 109 = .ok (.ifCond .eq 8, 3) := dk_153 0 8 (dk_at dksX2_findReadable_4 17 rfl rfl)
theorem dX2_findReadable_112 : decode cX2_findReadable 112 = .ok (.iload 6, 2) := dk_21 6 (dk_at dksX2_findReadable_4 20 rfl rfl)
theorem dX2_findReadable_114 : decode cX2_findReadable 114 = .ok (.goto 4, 3) := dk_167 0 4 (dk_at dksX2_findReadable_5 0 rfl rfl)
theorem dX2_findReadable_117 : decode cX2_findReadable 117 = .ok (.iconst 0, 1) := dk_3 (dk_at dksX2_findReadable_5 3 rfl rfl)
theorem dX2_findReadable_118 : decode cX2_findReadable 118 = .ok (.iadd, 1) := dk_96 (dk_at dksX2_findReadable_5 4 rfl rfl)
theorem dX2_findReadable_119 : decode cX2_findReadable 119 = .ok (.istore 4, 2) := dk_54 4 (dk_at dksX2_findReadable_5 5 rfl rfl)
theorem dX2_findReadable_121 : decode cX2_findReadable 121 = .ok (.iinc 5 1, 3) := dk_132 5 1 (dk_at dksX2_findReadable_5 7 rfl rfl)
theorem dX2_findReadable_124 : decode cX2_findReadable 124 = .ok (.goto (-63), 3) := dk_167 255 193 (dk_at dksX2_findReadable_5 10 rfl rfl)
theorem dX2_findReadable_127 : decode cX2_findReadable 127 = .ok (.iload_n 3, 1) := dk_29 (dk_at dksX2_findReadable_5 13 rfl rfl)
theorem dX2_findReadable_128 : decode cX2_findReadable 128 = .ok (.ifCond .eq 39, 3) := dk_153 0 39 (dk_at dksX2_findReadable_5 14 rfl rfl)
theorem dX2_findReadable_131 : decode cX2_findReadable 131 = .ok (.aload_n 0, 1) := dk_42 (dk_at dksX2_findReadable_5 17 rfl rfl)
theorem dX2_findReadable_132 : decode cX2_findReadable 132 = .ok (.getfield 93, 3) := dk_180 0 93 (dk_at dksX2_findReadable_5 18 rfl rfl)
theorem dX2_findReadable_135 : decode cX2_findReadable 135 = .ok (.aload_n 0, 1) := dk_42 (dk_at dksX2_findReadable_5 21 rfl rfl)
theorem dX2_findReadable_136 : decode cX2_findReadable 136 = .ok (.getfield 288, 3) := dk_180 1 32 (dk_at dksX2_findReadable_6 0 rfl rfl)
theorem dX2_findReadable_139 : decode cX2_findReadable 139 = .ok (.aload_n 0, 1) := dk_42 (dk_at dksX2_findReadable_6 3 rfl rfl)
theorem dX2_findReadable_140 : decode cX2_findReadable 140 = .ok (.getfield 32, 3) := dk_180 0 32 (dk_at dksX2_findReadable_6 4 rfl rfl)
theorem dX2_findReadable_143 : decode cX2_findReadable 143 = .ok (.iload_n 2, 1) := dk_28 (dk_at dksX2_findReadable_6 7 rfl rfl)
theorem dX2_findReadable_144 : decode cX2_findReadable 144 = .ok (.iaload, 1) := dk_46 (dk_at dksX2_findReadable_6 8 rfl rfl)
theorem dX2_findReadable_145 : decode cX2_findReadable 145 = .ok (.iastore, 1) := dk_79 (dk_at dksX2_findReadable_6 9 rfl rfl)
theorem dX2_findReadable_146 : decode cX2_findReadable 146 = .ok (.aload_n 0, 1) := dk_42 (dk_at dksX2_findReadable_6 10 rfl rfl)
theorem dX2_findReadable_147 : decode cX2_findReadable 147 = .ok (.getfield 96, 3) := dk_180 0 96 (dk_at dksX2_findReadable_6 11 rfl rfl)
theorem dX2_findReadable_150 : decode cX2_findReadable 150 = .ok (.aload_n 0, 1) := dk_42 (dk_at dksX2_findReadable_6 14 rfl rfl)
theorem dX2_findReadable_151 : decode cX2_findReadable 151 = .ok (.getfield 288, 3) := dk_180 1 32 (dk_at dksX2_findReadable_6 15 rfl rfl)
theorem dX2_findReadable_154 : decode cX2_findReadable 154 = .ok (.iload 4, 2) := dk_21 4 (dk_at dksX2_findReadable_6 18 rfl rfl)
theorem dX2_findReadable_156 : decode cX2_findReadable 156 = .ok (.iastore, 1) := dk_79 (dk_at dksX2_findReadable_6 20 rfl rfl)
theorem dX2_findReadable_157 : decode cX2_findReadable 157 = .ok (.aload_n 0, 1) := dk_42 (dk_at dksX2_findReadable_6 21 rfl rfl)
theorem dX2_findReadable_158 : decode cX2_findReadable 158 = .ok (.dup, 1) := dk_89 (dk_at dksX2_findReadable_6 22 rfl rfl)
theorem dX2_findReadable_159 : decode cX2_findReadable 159 = .ok (.getfield 288, 3) := dk_180 1 32 (dk_at dksX2_findReadable_7 0 rfl rfl)
theorem dX2_findReadable_162 : decode cX2_findReadable 162 = .ok (.iconst 1, 1) := dk_4 (dk_at dksX2_findReadable_7 3 rfl rfl)
theorem dX2_findReadable_163 : decode cX2_findReadable 163 = .ok (.iadd, 1) := dk_96 (dk_at dksX2_findReadable_7 4 rfl rfl)
theorem dX2_findReadable_164 : decode cX2_findReadable 164 = .ok (.putfield 288, 3) := dk_181 1 32 (dk_at dksX2_findReadable_7 5 rfl rfl)
theorem dX2_findReadable_167 : decode cX2_findReadable 167 = .ok (.iinc 2 1, 3) := dk_132 2 1 (dk_at dksX2_findReadable_7 8 rfl rfl)
theorem dX2_findReadable_170 : decode cX2_findReadable 170 = .ok (.goto (-163), 3) := dk_167 255 93 (dk_at dksX2_findReadable_7 11 rfl rfl)
theorem dX2_findReadable_173 : decode cX2_findReadable 173 = .ok (.return_, 1) := dk_177 (dk_at dksX2_findReadable_7 14 rfl rfl)
abbrev cX2_readBy : ByteArray := prog_11_method_56_code
def yX2_readBy : MethodName := ⟨RX2, "readBy", "(I)I"⟩
def dkwX2_readBy_4 : List UInt8 := [167, 255, 165, 28, 172]
abbrev dktX2_readBy_4 : List UInt8 := dkwX2_readBy_4 ++ []
def dkwX2_readBy_3 : List UInt8 := [42, 180, 0, 93, 29, 46, 104, 21, 4, 96, 51, 153, 0, 7, 4, 167, 0, 4, 3, 96, 61, 132, 3, 1]
abbrev dktX2_readBy_3 : List UInt8 := dkwX2_readBy_3 ++ dktX2_readBy_4
def dkwX2_readBy_2 : List UInt8 := [16, 7, 126, 104, 122, 6, 126, 96, 54, 4, 132, 5, 255, 167, 255, 221, 28, 42, 180, 0, 99, 17, 16, 0]
abbrev dktX2_readBy_2 : List UInt8 := dkwX2_readBy_2 ++ dktX2_readBy_3
def dkwX2_readBy_1 : List UInt8 := [54, 5, 21, 5, 155, 0, 36, 7, 21, 4, 104, 27, 5, 42, 180, 0, 96, 29, 46, 6, 21, 5, 104, 122]
abbrev dktX2_readBy_1 : List UInt8 := dkwX2_readBy_1 ++ dktX2_readBy_2
def dkwX2_readBy_0 : List UInt8 := [3, 61, 3, 62, 29, 42, 180, 1, 32, 162, 0, 89, 3, 54, 4, 42, 180, 0, 93, 29, 46, 4, 100]
abbrev dktX2_readBy_0 : List UInt8 := dkwX2_readBy_0 ++ dktX2_readBy_1
theorem dksX2_readBy_0 : cX2_readBy.data.toList.drop 0 = dktX2_readBy_0 := by decide +kernel
theorem dksX2_readBy_1 : cX2_readBy.data.toList.drop 23 = dktX2_readBy_1 := dk_seg dksX2_readBy_0 23 rfl rfl
theorem dksX2_readBy_2 : cX2_readBy.data.toList.drop 47 = dktX2_readBy_2 := dk_seg dksX2_readBy_1 24 rfl rfl
theorem dksX2_readBy_3 : cX2_readBy.data.toList.drop 71 = dktX2_readBy_3 := dk_seg dksX2_readBy_2 24 rfl rfl
theorem dksX2_readBy_4 : cX2_readBy.data.toList.drop 95 = dktX2_readBy_4 := dk_seg dksX2_readBy_3 24 rfl rfl
theorem dX2_readBy_0 : decode cX2_readBy 0 = .ok (.iconst 0, 1) := dk_3 (dk_at dksX2_readBy_0 0 rfl rfl)
theorem dX2_readBy_1 : decode cX2_readBy 1 = .ok (.istore_n 2, 1) := dk_61 (dk_at dksX2_readBy_0 1 rfl rfl)
theorem dX2_readBy_2 : decode cX2_readBy 2 = .ok (.iconst 0, 1) := dk_3 (dk_at dksX2_readBy_0 2 rfl rfl)
theorem dX2_readBy_3 : decode cX2_readBy 3 = .ok (.istore_n 3, 1) := dk_62 (dk_at dksX2_readBy_0 3 rfl rfl)
theorem dX2_readBy_4 : decode cX2_readBy 4 = .ok (.iload_n 3, 1) := dk_29 (dk_at dksX2_readBy_0 4 rfl rfl)
theorem dX2_readBy_5 : decode cX2_readBy 5 = .ok (.aload_n 0, 1) := dk_42 (dk_at dksX2_readBy_0 5 rfl rfl)
theorem dX2_readBy_6 : decode cX2_readBy 6 = .ok (.getfield 288, 3) := dk_180 1 32 (dk_at dksX2_readBy_0 6 rfl rfl)
theorem dX2_readBy_9 : decode cX2_readBy 9 = .ok (.if_icmp .ge 89, 3) := dk_162 0 89 (dk_at dksX2_readBy_0 9 rfl rfl)
theorem dX2_readBy_12 : decode cX2_readBy 12 = .ok (.iconst 0, 1) := dk_3 (dk_at dksX2_readBy_0 12 rfl rfl)
theorem dX2_readBy_13 : decode cX2_readBy 13 = .ok (.istore 4, 2) := dk_54 4 (dk_at dksX2_readBy_0 13 rfl rfl)
theorem dX2_readBy_15 : decode cX2_readBy 15 = .ok (.aload_n 0, 1) := dk_42 (dk_at dksX2_readBy_0 15 rfl rfl)
theorem dX2_readBy_16 : decode cX2_readBy 16 = .ok (.getfield 93, 3) := dk_180 0 93 (dk_at dksX2_readBy_0 16 rfl rfl)
theorem dX2_readBy_19 : decode cX2_readBy 19 = .ok (.iload_n 3, 1) := dk_29 (dk_at dksX2_readBy_0 19 rfl rfl)
theorem dX2_readBy_20 : decode cX2_readBy 20 = .ok (.iaload, 1) := dk_46 (dk_at dksX2_readBy_0 20 rfl rfl)
theorem dX2_readBy_21 : decode cX2_readBy 21 = .ok (.iconst 1, 1) := dk_4 (dk_at dksX2_readBy_0 21 rfl rfl)
theorem dX2_readBy_22 : decode cX2_readBy 22 = .ok (.isub, 1) := dk_100 (dk_at dksX2_readBy_0 22 rfl rfl)
theorem dX2_readBy_23 : decode cX2_readBy 23 = .ok (.istore 5, 2) := dk_54 5 (dk_at dksX2_readBy_1 0 rfl rfl)
theorem dX2_readBy_25 : decode cX2_readBy 25 = .ok (.iload 5, 2) := dk_21 5 (dk_at dksX2_readBy_1 2 rfl rfl)
theorem dX2_readBy_27 : decode cX2_readBy 27 = .ok (.ifCond .lt 36, 3) := dk_155 0 36 (dk_at dksX2_readBy_1 4 rfl rfl)
theorem dX2_readBy_30 : decode cX2_readBy 30 = .ok (.iconst 4, 1) := dk_7 (dk_at dksX2_readBy_1 7 rfl rfl)
theorem dX2_readBy_31 : decode cX2_readBy 31 = .ok (.iload 4, 2) := dk_21 4 (dk_at dksX2_readBy_1 8 rfl rfl)
theorem dX2_readBy_33 : decode cX2_readBy 33 = .ok (.imul, 1) := dk_104 (dk_at dksX2_readBy_1 10 rfl rfl)
theorem dX2_readBy_34 : decode cX2_readBy 34 = .ok (.iload_n 1, 1) := dk_27 (dk_at dksX2_readBy_1 11 rfl rfl)
theorem dX2_readBy_35 : decode cX2_readBy 35 = .ok (.iconst 2, 1) := dk_5 (dk_at dksX2_readBy_1 12 rfl rfl)
theorem dX2_readBy_36 : decode cX2_readBy 36 = .ok (.aload_n 0, 1) := dk_42 (dk_at dksX2_readBy_1 13 rfl rfl)
theorem dX2_readBy_37 : decode cX2_readBy 37 = .ok (.getfield 96, 3) := dk_180 0 96 (dk_at dksX2_readBy_1 14 rfl rfl)
theorem dX2_readBy_40 : decode cX2_readBy 40 = .ok (.iload_n 3, 1) := dk_29 (dk_at dksX2_readBy_1 17 rfl rfl)
theorem dX2_readBy_41 : decode cX2_readBy 41 = .ok (.iaload, 1) := dk_46 (dk_at dksX2_readBy_1 18 rfl rfl)
theorem dX2_readBy_42 : decode cX2_readBy 42 = .ok (.iconst 3, 1) := dk_6 (dk_at dksX2_readBy_1 19 rfl rfl)
theorem dX2_readBy_43 : decode cX2_readBy 43 = .ok (.iload 5, 2) := dk_21 5 (dk_at dksX2_readBy_1 20 rfl rfl)
theorem dX2_readBy_45 : decode cX2_readBy 45 = .ok (.imul, 1) := dk_104 (dk_at dksX2_readBy_1 22 rfl rfl)
theorem dX2_readBy_46 : decode cX2_readBy 46 = .ok (.ishr, 1) := dk_122 (dk_at dksX2_readBy_1 23 rfl rfl)
theorem dX2_readBy_47 : decode cX2_readBy 47 = .ok (.bipush 7, 2) := dk_16 7 (dk_at dksX2_readBy_2 0 rfl rfl)
theorem dX2_readBy_49 : decode cX2_readBy 49 = .ok (.iand, 1) := dk_126 (dk_at dksX2_readBy_2 2 rfl rfl)
theorem dX2_readBy_50 : decode cX2_readBy 50 = .ok (.imul, 1) := dk_104 (dk_at dksX2_readBy_2 3 rfl rfl)
theorem dX2_readBy_51 : decode cX2_readBy 51 = .ok (.ishr, 1) := dk_122 (dk_at dksX2_readBy_2 4 rfl rfl)
theorem dX2_readBy_52 : decode cX2_readBy 52 = .ok (.iconst 3, 1) := dk_6 (dk_at dksX2_readBy_2 5 rfl rfl)
theorem dX2_readBy_53 : decode cX2_readBy 53 = .ok (.iand, 1) := dk_126 (dk_at dksX2_readBy_2 6 rfl rfl)
theorem dX2_readBy_54 : decode cX2_readBy 54 = .ok (.iadd, 1) := dk_96 (dk_at dksX2_readBy_2 7 rfl rfl)
theorem dX2_readBy_55 : decode cX2_readBy 55 = .ok (.istore 4, 2) := dk_54 4 (dk_at dksX2_readBy_2 8 rfl rfl)
theorem dX2_readBy_57 : decode cX2_readBy 57 = .ok (.iinc 5 (-1), 3) := dk_132 5 255 (dk_at dksX2_readBy_2 10 rfl rfl)
theorem dX2_readBy_60 : decode cX2_readBy 60 = .ok (.goto (-35), 3) := dk_167 255 221 (dk_at dksX2_readBy_2 13 rfl rfl)
theorem dX2_readBy_63 : decode cX2_readBy 63 = .ok (.iload_n 2, 1) := dk_28 (dk_at dksX2_readBy_2 16 rfl rfl)
theorem dX2_readBy_64 : decode cX2_readBy 64 = .ok (.aload_n 0, 1) := dk_42 (dk_at dksX2_readBy_2 17 rfl rfl)
theorem dX2_readBy_65 : decode cX2_readBy 65 = .ok (.getfield 99, 3) := dk_180 0 99 (dk_at dksX2_readBy_2 18 rfl rfl)
theorem dX2_readBy_68 : decode cX2_readBy 68 = .ok (.sipush 4096, 3) := dk_17 16 0 (dk_at dksX2_readBy_2 21 rfl rfl)
theorem dX2_readBy_71 : decode cX2_readBy 71 = .ok (.aload_n 0, 1) := dk_42 (dk_at dksX2_readBy_3 0 rfl rfl)
theorem dX2_readBy_72 : decode cX2_readBy 72 = .ok (.getfield 93, 3) := dk_180 0 93 (dk_at dksX2_readBy_3 1 rfl rfl)
theorem dX2_readBy_75 : decode cX2_readBy 75 = .ok (.iload_n 3, 1) := dk_29 (dk_at dksX2_readBy_3 4 rfl rfl)
theorem dX2_readBy_76 : decode cX2_readBy 76 = .ok (.iaload, 1) := dk_46 (dk_at dksX2_readBy_3 5 rfl rfl)
theorem dX2_readBy_77 : decode cX2_readBy 77 = .ok (.imul, 1) := dk_104 (dk_at dksX2_readBy_3 6 rfl rfl)
theorem dX2_readBy_78 : decode cX2_readBy 78 = .ok (.iload 4, 2) := dk_21 4 (dk_at dksX2_readBy_3 7 rfl rfl)
theorem dX2_readBy_80 : decode cX2_readBy 80 = .ok (.iadd, 1) := dk_96 (dk_at dksX2_readBy_3 9 rfl rfl)
theorem dX2_readBy_81 : decode cX2_readBy 81 = .ok (.baload, 1) := dk_51 (dk_at dksX2_readBy_3 10 rfl rfl)
theorem dX2_readBy_82 : decode cX2_readBy 82 = .ok (.ifCond .eq 7, 3) := dk_153 0 7 (dk_at dksX2_readBy_3 11 rfl rfl)
theorem dX2_readBy_85 : decode cX2_readBy 85 = .ok (.iconst 1, 1) := dk_4 (dk_at dksX2_readBy_3 14 rfl rfl)
theorem dX2_readBy_86 : decode cX2_readBy 86 = .ok (.goto 4, 3) := dk_167 0 4 (dk_at dksX2_readBy_3 15 rfl rfl)
theorem dX2_readBy_89 : decode cX2_readBy 89 = .ok (.iconst 0, 1) := dk_3 (dk_at dksX2_readBy_3 18 rfl rfl)
theorem dX2_readBy_90 : decode cX2_readBy 90 = .ok (.iadd, 1) := dk_96 (dk_at dksX2_readBy_3 19 rfl rfl)
theorem dX2_readBy_91 : decode cX2_readBy 91 = .ok (.istore_n 2, 1) := dk_61 (dk_at dksX2_readBy_3 20 rfl rfl)
theorem dX2_readBy_92 : decode cX2_readBy 92 = .ok (.iinc 3 1, 3) := dk_132 3 1 (dk_at dksX2_readBy_3 21 rfl rfl)
theorem dX2_readBy_95 : decode cX2_readBy 95 = .ok (.goto (-91), 3) := dk_167 255 165 (dk_at dksX2_readBy_4 0 rfl rfl)
theorem dX2_readBy_98 : decode cX2_readBy 98 = .ok (.iload_n 2, 1) := dk_28 (dk_at dksX2_readBy_4 3 rfl rfl)
theorem dX2_readBy_99 : decode cX2_readBy 99 = .ok (.ireturn, 1) := dk_172 (dk_at dksX2_readBy_4 4 rfl rfl)
abbrev cX2_best : ByteArray := prog_11_method_61_code
def yX2_best : MethodName := ⟨RX2, "best", "(II)I"⟩
def dkwX2_best_2 : List UInt8 := [167, 0, 7, 42, 180, 1, 50, 172]
abbrev dktX2_best_2 : List UInt8 := dkwX2_best_2 ++ []
def dkwX2_best_1 : List UInt8 := [182, 1, 59, 28, 154, 0, 10, 42, 180, 1, 56, 167, 0, 19, 28, 4, 160, 0, 10, 42, 180, 1, 47]
abbrev dktX2_best_1 : List UInt8 := dkwX2_best_1 ++ dktX2_best_2
def dkwX2_best_0 : List UInt8 := [42, 27, 182, 1, 35, 153, 0, 15, 28, 133, 9, 20, 0, 198, 184, 0, 138, 154, 0, 5, 2, 172, 42, 27]
abbrev dktX2_best_0 : List UInt8 := dkwX2_best_0 ++ dktX2_best_1
theorem dksX2_best_0 : cX2_best.data.toList.drop 0 = dktX2_best_0 := by decide +kernel
theorem dksX2_best_1 : cX2_best.data.toList.drop 24 = dktX2_best_1 := dk_seg dksX2_best_0 24 rfl rfl
theorem dksX2_best_2 : cX2_best.data.toList.drop 47 = dktX2_best_2 := dk_seg dksX2_best_1 23 rfl rfl
theorem dX2_best_0 : decode cX2_best 0 = .ok (.aload_n 0, 1) := dk_42 (dk_at dksX2_best_0 0 rfl rfl)
theorem dX2_best_1 : decode cX2_best 1 = .ok (.iload_n 1, 1) := dk_27 (dk_at dksX2_best_0 1 rfl rfl)
theorem dX2_best_2 : decode cX2_best 2 = .ok (.invokevirtual 291, 3) := dk_182 1 35 (dk_at dksX2_best_0 2 rfl rfl)
theorem dX2_best_5 : decode cX2_best 5 = .ok (.ifCond .eq 15, 3) := dk_153 0 15 (dk_at dksX2_best_0 5 rfl rfl)
theorem dX2_best_8 : decode cX2_best 8 = .ok (.iload_n 2, 1) := dk_28 (dk_at dksX2_best_0 8 rfl rfl)
theorem dX2_best_9 : decode cX2_best 9 = .ok (.i2l, 1) := dk_133 (dk_at dksX2_best_0 9 rfl rfl)
theorem dX2_best_10 : decode cX2_best 10 = .ok (.lconst 0, 1) := dk_9 (dk_at dksX2_best_0 10 rfl rfl)
theorem dX2_best_11 : decode cX2_best 11 = .ok (.ldc2_w 198, 3) := dk_20 0 198 (dk_at dksX2_best_0 11 rfl rfl)
theorem dX2_best_14 : decode cX2_best 14 = .ok (.invokestatic 138, 3) := dk_184 0 138 (dk_at dksX2_best_0 14 rfl rfl)
theorem dX2_best_17 : decode cX2_best 17 = .ok (.ifCond .ne 5, 3) := dk_154 0 5 (dk_at dksX2_best_0 17 rfl rfl)
theorem dX2_best_20 : decode cX2_best 20 = .ok (.iconst (-1), 1) := dk_2 (dk_at dksX2_best_0 20 rfl rfl)
theorem dX2_best_21 : decode cX2_best 21 = .ok (.ireturn, 1) := dk_172 (dk_at dksX2_best_0 21 rfl rfl)
theorem dX2_best_22 : decode cX2_best 22 = .ok (.aload_n 0, 1) := dk_42 (dk_at dksX2_best_0 22 rfl rfl)
theorem dX2_best_23 : decode cX2_best 23 = .ok (.iload_n 1, 1) := dk_27 (dk_at dksX2_best_0 23 rfl rfl)
theorem dX2_best_24 : decode cX2_best 24 = .ok (.invokevirtual 315, 3) := dk_182 1 59 (dk_at dksX2_best_1 0 rfl rfl)
theorem dX2_best_27 : decode cX2_best 27 = .ok (.iload_n 2, 1) := dk_28 (dk_at dksX2_best_1 3 rfl rfl)
theorem dX2_best_28 : decode cX2_best 28 = .ok (.ifCond .ne 10, 3) := dk_154 0 10 (dk_at dksX2_best_1 4 rfl rfl)
theorem dX2_best_31 : decode cX2_best 31 = .ok (.aload_n 0, 1) := dk_42 (dk_at dksX2_best_1 7 rfl rfl)
theorem dX2_best_32 : decode cX2_best 32 = .ok (.getfield 312, 3) := dk_180 1 56 (dk_at dksX2_best_1 8 rfl rfl)
theorem dX2_best_35 : decode cX2_best 35 = .ok (.goto 19, 3) := dk_167 0 19 (dk_at dksX2_best_1 11 rfl rfl)
theorem dX2_best_38 : decode cX2_best 38 = .ok (.iload_n 2, 1) := dk_28 (dk_at dksX2_best_1 14 rfl rfl)
theorem dX2_best_39 : decode cX2_best 39 = .ok (.iconst 1, 1) := dk_4 (dk_at dksX2_best_1 15 rfl rfl)
theorem dX2_best_40 : decode cX2_best 40 = .ok (.if_icmp .ne 10, 3) := dk_160 0 10 (dk_at dksX2_best_1 16 rfl rfl)
theorem dX2_best_43 : decode cX2_best 43 = .ok (.aload_n 0, 1) := dk_42 (dk_at dksX2_best_1 19 rfl rfl)
theorem dX2_best_44 : decode cX2_best 44 = .ok (.getfield 303, 3) := dk_180 1 47 (dk_at dksX2_best_1 20 rfl rfl)
theorem dX2_best_47 : decode cX2_best 47 = .ok (.goto 7, 3) := dk_167 0 7 (dk_at dksX2_best_2 0 rfl rfl)
theorem dX2_best_50 : decode cX2_best 50 = .ok (.aload_n 0, 1) := dk_42 (dk_at dksX2_best_2 3 rfl rfl)
theorem dX2_best_51 : decode cX2_best 51 = .ok (.getfield 306, 3) := dk_180 1 50 (dk_at dksX2_best_2 4 rfl rfl)
theorem dX2_best_54 : decode cX2_best 54 = .ok (.ireturn, 1) := dk_172 (dk_at dksX2_best_2 7 rfl rfl)
abbrev cX2_findBest : ByteArray := prog_11_method_60_code
def yX2_findBest : MethodName := ⟨RX2, "findBest", "(I)V"⟩
def dkwX2_findBest_4 : List UInt8 := [181, 1, 50, 132, 2, 1, 167, 255, 180, 177]
abbrev dktX2_findBest_4 : List UInt8 := dkwX2_findBest_4 ++ []
def dkwX2_findBest_3 : List UInt8 := [181, 1, 50, 42, 89, 180, 1, 50, 21, 4, 42, 180, 1, 47, 160, 0, 7, 4, 167, 0, 4, 3, 96]
abbrev dktX2_findBest_3 : List UInt8 := dkwX2_findBest_3 ++ dktX2_findBest_4
def dkwX2_findBest_2 : List UInt8 := [54, 4, 21, 4, 42, 180, 1, 47, 164, 0, 19, 42, 29, 181, 1, 56, 42, 21, 4, 181, 1, 47, 42, 3]
abbrev dktX2_findBest_2 : List UInt8 := dkwX2_findBest_2 ++ dktX2_findBest_3
def dkwX2_findBest_1 : List UInt8 := [61, 28, 4, 5, 42, 180, 1, 26, 104, 120, 162, 0, 70, 42, 28, 182, 1, 53, 62, 42, 29, 182, 1, 44]
abbrev dktX2_findBest_1 : List UInt8 := dkwX2_findBest_1 ++ dktX2_findBest_2
def dkwX2_findBest_0 : List UInt8 := [42, 182, 1, 29, 42, 182, 1, 38, 42, 27, 182, 1, 41, 42, 2, 181, 1, 47, 42, 3, 181, 1, 50, 3]
abbrev dktX2_findBest_0 : List UInt8 := dkwX2_findBest_0 ++ dktX2_findBest_1
theorem dksX2_findBest_0 : cX2_findBest.data.toList.drop 0 = dktX2_findBest_0 := by decide +kernel
theorem dksX2_findBest_1 : cX2_findBest.data.toList.drop 24 = dktX2_findBest_1 := dk_seg dksX2_findBest_0 24 rfl rfl
theorem dksX2_findBest_2 : cX2_findBest.data.toList.drop 48 = dktX2_findBest_2 := dk_seg dksX2_findBest_1 24 rfl rfl
theorem dksX2_findBest_3 : cX2_findBest.data.toList.drop 72 = dktX2_findBest_3 := dk_seg dksX2_findBest_2 24 rfl rfl
theorem dksX2_findBest_4 : cX2_findBest.data.toList.drop 95 = dktX2_findBest_4 := dk_seg dksX2_findBest_3 23 rfl rfl
theorem dX2_findBest_0 : decode cX2_findBest 0 = .ok (.aload_n 0, 1) := dk_42 (dk_at dksX2_findBest_0 0 rfl rfl)
theorem dX2_findBest_1 : decode cX2_findBest 1 = .ok (.invokevirtual 285, 3) := dk_182 1 29 (dk_at dksX2_findBest_0 1 rfl rfl)
theorem dX2_findBest_4 : decode cX2_findBest 4 = .ok (.aload_n 0, 1) := dk_42 (dk_at dksX2_findBest_0 4 rfl rfl)
theorem dX2_findBest_5 : decode cX2_findBest 5 = .ok (.invokevirtual 294, 3) := dk_182 1 38 (dk_at dksX2_findBest_0 5 rfl rfl)
theorem dX2_findBest_8 : decode cX2_findBest 8 = .ok (.aload_n 0, 1) := dk_42 (dk_at dksX2_findBest_0 8 rfl rfl)
theorem dX2_findBest_9 : decode cX2_findBest 9 = .ok (.iload_n 1, 1) := dk_27 (dk_at dksX2_findBest_0 9 rfl rfl)
theorem dX2_findBest_10 : decode cX2_findBest 10 = .ok (.invokevirtual 297, 3) := dk_182 1 41 (dk_at dksX2_findBest_0 10 rfl rfl)
theorem dX2_findBest_13 : decode cX2_findBest 13 = .ok (.aload_n 0, 1) := dk_42 (dk_at dksX2_findBest_0 13 rfl rfl)
theorem dX2_findBest_14 : decode cX2_findBest 14 = .ok (.iconst (-1), 1) := dk_2 (dk_at dksX2_findBest_0 14 rfl rfl)
theorem dX2_findBest_15 : decode cX2_findBest 15 = .ok (.putfield 303, 3) := dk_181 1 47 (dk_at dksX2_findBest_0 15 rfl rfl)
theorem dX2_findBest_18 : decode cX2_findBest 18 = .ok (.aload_n 0, 1) := dk_42 (dk_at dksX2_findBest_0 18 rfl rfl)
theorem dX2_findBest_19 : decode cX2_findBest 19 = .ok (.iconst 0, 1) := dk_3 (dk_at dksX2_findBest_0 19 rfl rfl)
theorem dX2_findBest_20 : decode cX2_findBest 20 = .ok (.putfield 306, 3) := dk_181 1 50 (dk_at dksX2_findBest_0 20 rfl rfl)
theorem dX2_findBest_23 : decode cX2_findBest 23 = .ok (.iconst 0, 1) := dk_3 (dk_at dksX2_findBest_0 23 rfl rfl)
theorem dX2_findBest_24 : decode cX2_findBest 24 = .ok (.istore_n 2, 1) := dk_61 (dk_at dksX2_findBest_1 0 rfl rfl)
theorem dX2_findBest_25 : decode cX2_findBest 25 = .ok (.iload_n 2, 1) := dk_28 (dk_at dksX2_findBest_1 1 rfl rfl)
theorem dX2_findBest_26 : decode cX2_findBest 26 = .ok (.iconst 1, 1) := dk_4 (dk_at dksX2_findBest_1 2 rfl rfl)
theorem dX2_findBest_27 : decode cX2_findBest 27 = .ok (.iconst 2, 1) := dk_5 (dk_at dksX2_findBest_1 3 rfl rfl)
theorem dX2_findBest_28 : decode cX2_findBest 28 = .ok (.aload_n 0, 1) := dk_42 (dk_at dksX2_findBest_1 4 rfl rfl)
theorem dX2_findBest_29 : decode cX2_findBest 29 = .ok (.getfield 282, 3) := dk_180 1 26 (dk_at dksX2_findBest_1 5 rfl rfl)
theorem dX2_findBest_32 : decode cX2_findBest 32 = .ok (.imul, 1) := dk_104 (dk_at dksX2_findBest_1 8 rfl rfl)
theorem dX2_findBest_33 : decode cX2_findBest 33 = .ok (.ishl, 1) := dk_120 (dk_at dksX2_findBest_1 9 rfl rfl)
theorem dX2_findBest_34 : decode cX2_findBest 34 = .ok (.if_icmp .ge 70, 3) := dk_162 0 70 (dk_at dksX2_findBest_1 10 rfl rfl)
theorem dX2_findBest_37 : decode cX2_findBest 37 = .ok (.aload_n 0, 1) := dk_42 (dk_at dksX2_findBest_1 13 rfl rfl)
theorem dX2_findBest_38 : decode cX2_findBest 38 = .ok (.iload_n 2, 1) := dk_28 (dk_at dksX2_findBest_1 14 rfl rfl)
theorem dX2_findBest_39 : decode cX2_findBest 39 = .ok (.invokevirtual 309, 3) := dk_182 1 53 (dk_at dksX2_findBest_1 15 rfl rfl)
theorem dX2_findBest_42 : decode cX2_findBest 42 = .ok (.istore_n 3, 1) := dk_62 (dk_at dksX2_findBest_1 18 rfl rfl)
theorem dX2_findBest_43 : decode cX2_findBest 43 = .ok (.aload_n 0, 1) := dk_42 (dk_at dksX2_findBest_1 19 rfl rfl)
theorem dX2_findBest_44 : decode cX2_findBest 44 = .ok (.iload_n 3, 1) := dk_29 (dk_at dksX2_findBest_1 20 rfl rfl)
theorem dX2_findBest_45 : decode cX2_findBest 45 = .ok (.invokevirtual 300, 3) := dk_182 1 44 (dk_at dksX2_findBest_1 21 rfl rfl)
theorem dX2_findBest_48 : decode cX2_findBest 48 = .ok (.istore 4, 2) := dk_54 4 (dk_at dksX2_findBest_2 0 rfl rfl)
theorem dX2_findBest_50 : decode cX2_findBest 50 = .ok (.iload 4, 2) := dk_21 4 (dk_at dksX2_findBest_2 2 rfl rfl)
theorem dX2_findBest_52 : decode cX2_findBest 52 = .ok (.aload_n 0, 1) := dk_42 (dk_at dksX2_findBest_2 4 rfl rfl)
theorem dX2_findBest_53 : decode cX2_findBest 53 = .ok (.getfield 303, 3) := dk_180 1 47 (dk_at dksX2_findBest_2 5 rfl rfl)
theorem dX2_findBest_56 : decode cX2_findBest 56 = .ok (.if_icmp .le 19, 3) := dk_164 0 19 (dk_at dksX2_findBest_2 8 rfl rfl)
theorem dX2_findBest_59 : decode cX2_findBest 59 = .ok (.aload_n 0, 1) := dk_42 (dk_at dksX2_findBest_2 11 rfl rfl)
theorem dX2_findBest_60 : decode cX2_findBest 60 = .ok (.iload_n 3, 1) := dk_29 (dk_at dksX2_findBest_2 12 rfl rfl)
theorem dX2_findBest_61 : decode cX2_findBest 61 = .ok (.putfield 312, 3) := dk_181 1 56 (dk_at dksX2_findBest_2 13 rfl rfl)
theorem dX2_findBest_64 : decode cX2_findBest 64 = .ok (.aload_n 0, 1) := dk_42 (dk_at dksX2_findBest_2 16 rfl rfl)
theorem dX2_findBest_65 : decode cX2_findBest 65 = .ok (.iload 4, 2) := dk_21 4 (dk_at dksX2_findBest_2 17 rfl rfl)
theorem dX2_findBest_67 : decode cX2_findBest 67 = .ok (.putfield 303, 3) := dk_181 1 47 (dk_at dksX2_findBest_2 19 rfl rfl)
theorem dX2_findBest_70 : decode cX2_findBest 70 = .ok (.aload_n 0, 1) := dk_42 (dk_at dksX2_findBest_2 22 rfl rfl)
theorem dX2_findBest_71 : decode cX2_findBest 71 = .ok (.iconst 0, 1) := dk_3 (dk_at dksX2_findBest_2 23 rfl rfl)
theorem dX2_findBest_72 : decode cX2_findBest 72 = .ok (.putfield 306, 3) := dk_181 1 50 (dk_at dksX2_findBest_3 0 rfl rfl)
theorem dX2_findBest_75 : decode cX2_findBest 75 = .ok (.aload_n 0, 1) := dk_42 (dk_at dksX2_findBest_3 3 rfl rfl)
theorem dX2_findBest_76 : decode cX2_findBest 76 = .ok (.dup, 1) := dk_89 (dk_at dksX2_findBest_3 4 rfl rfl)
theorem dX2_findBest_77 : decode cX2_findBest 77 = .ok (.getfield 306, 3) := dk_180 1 50 (dk_at dksX2_findBest_3 5 rfl rfl)
theorem dX2_findBest_80 : decode cX2_findBest 80 = .ok (.iload 4, 2) := dk_21 4 (dk_at dksX2_findBest_3 8 rfl rfl)
theorem dX2_findBest_82 : decode cX2_findBest 82 = .ok (.aload_n 0, 1) := dk_42 (dk_at dksX2_findBest_3 10 rfl rfl)
theorem dX2_findBest_83 : decode cX2_findBest 83 = .ok (.getfield 303, 3) := dk_180 1 47 (dk_at dksX2_findBest_3 11 rfl rfl)
theorem dX2_findBest_86 : decode cX2_findBest 86 = .ok (.if_icmp .ne 7, 3) := dk_160 0 7 (dk_at dksX2_findBest_3 14 rfl rfl)
theorem dX2_findBest_89 : decode cX2_findBest 89 = .ok (.iconst 1, 1) := dk_4 (dk_at dksX2_findBest_3 17 rfl rfl)
theorem dX2_findBest_90 : decode cX2_findBest 90 = .ok (.goto 4, 3) := dk_167 0 4 (dk_at dksX2_findBest_3 18 rfl rfl)
theorem dX2_findBest_93 : decode cX2_findBest 93 = .ok (.iconst 0, 1) := dk_3 (dk_at dksX2_findBest_3 21 rfl rfl)
theorem dX2_findBest_94 : decode cX2_findBest 94 = .ok (.iadd, 1) := dk_96 (dk_at dksX2_findBest_3 22 rfl rfl)
theorem dX2_findBest_95 : decode cX2_findBest 95 = .ok (.putfield 306, 3) := dk_181 1 50 (dk_at dksX2_findBest_4 0 rfl rfl)
theorem dX2_findBest_98 : decode cX2_findBest 98 = .ok (.iinc 2 1, 3) := dk_132 2 1 (dk_at dksX2_findBest_4 3 rfl rfl)
theorem dX2_findBest_101 : decode cX2_findBest 101 = .ok (.goto (-76), 3) := dk_167 255 180 (dk_at dksX2_findBest_4 6 rfl rfl)
theorem dX2_findBest_104 : decode cX2_findBest 104 = .ok (.return_, 1) := dk_177 (dk_at dksX2_findBest_4 9 rfl rfl)
abbrev cX2_turned : ByteArray := prog_11_method_59_code
def yX2_turned : MethodName := ⟨RX2, "turned", "(I)I"⟩
def dkwX2_turned_1 : List UInt8 := [132, 3, 1, 167, 255, 233, 28, 172]
abbrev dktX2_turned_1 : List UInt8 := dkwX2_turned_1 ++ []
def dkwX2_turned_0 : List UInt8 := [3, 61, 3, 62, 29, 42, 180, 1, 26, 162, 0, 21, 7, 28, 104, 27, 5, 29, 104, 122, 6, 126, 96, 61]
abbrev dktX2_turned_0 : List UInt8 := dkwX2_turned_0 ++ dktX2_turned_1
theorem dksX2_turned_0 : cX2_turned.data.toList.drop 0 = dktX2_turned_0 := by decide +kernel
theorem dksX2_turned_1 : cX2_turned.data.toList.drop 24 = dktX2_turned_1 := dk_seg dksX2_turned_0 24 rfl rfl
theorem dX2_turned_0 : decode cX2_turned 0 = .ok (.iconst 0, 1) := dk_3 (dk_at dksX2_turned_0 0 rfl rfl)
theorem dX2_turned_1 : decode cX2_turned 1 = .ok (.istore_n 2, 1) := dk_61 (dk_at dksX2_turned_0 1 rfl rfl)
theorem dX2_turned_2 : decode cX2_turned 2 = .ok (.iconst 0, 1) := dk_3 (dk_at dksX2_turned_0 2 rfl rfl)
theorem dX2_turned_3 : decode cX2_turned 3 = .ok (.istore_n 3, 1) := dk_62 (dk_at dksX2_turned_0 3 rfl rfl)
theorem dX2_turned_4 : decode cX2_turned 4 = .ok (.iload_n 3, 1) := dk_29 (dk_at dksX2_turned_0 4 rfl rfl)
theorem dX2_turned_5 : decode cX2_turned 5 = .ok (.aload_n 0, 1) := dk_42 (dk_at dksX2_turned_0 5 rfl rfl)
theorem dX2_turned_6 : decode cX2_turned 6 = .ok (.getfield 282, 3) := dk_180 1 26 (dk_at dksX2_turned_0 6 rfl rfl)
theorem dX2_turned_9 : decode cX2_turned 9 = .ok (.if_icmp .ge 21, 3) := dk_162 0 21 (dk_at dksX2_turned_0 9 rfl rfl)
theorem dX2_turned_12 : decode cX2_turned 12 = .ok (.iconst 4, 1) := dk_7 (dk_at dksX2_turned_0 12 rfl rfl)
theorem dX2_turned_13 : decode cX2_turned 13 = .ok (.iload_n 2, 1) := dk_28 (dk_at dksX2_turned_0 13 rfl rfl)
theorem dX2_turned_14 : decode cX2_turned 14 = .ok (.imul, 1) := dk_104 (dk_at dksX2_turned_0 14 rfl rfl)
theorem dX2_turned_15 : decode cX2_turned 15 = .ok (.iload_n 1, 1) := dk_27 (dk_at dksX2_turned_0 15 rfl rfl)
theorem dX2_turned_16 : decode cX2_turned 16 = .ok (.iconst 2, 1) := dk_5 (dk_at dksX2_turned_0 16 rfl rfl)
theorem dX2_turned_17 : decode cX2_turned 17 = .ok (.iload_n 3, 1) := dk_29 (dk_at dksX2_turned_0 17 rfl rfl)
theorem dX2_turned_18 : decode cX2_turned 18 = .ok (.imul, 1) := dk_104 (dk_at dksX2_turned_0 18 rfl rfl)
theorem dX2_turned_19 : decode cX2_turned 19 = .ok (.ishr, 1) := dk_122 (dk_at dksX2_turned_0 19 rfl rfl)
theorem dX2_turned_20 : decode cX2_turned 20 = .ok (.iconst 3, 1) := dk_6 (dk_at dksX2_turned_0 20 rfl rfl)
theorem dX2_turned_21 : decode cX2_turned 21 = .ok (.iand, 1) := dk_126 (dk_at dksX2_turned_0 21 rfl rfl)
theorem dX2_turned_22 : decode cX2_turned 22 = .ok (.iadd, 1) := dk_96 (dk_at dksX2_turned_0 22 rfl rfl)
theorem dX2_turned_23 : decode cX2_turned 23 = .ok (.istore_n 2, 1) := dk_61 (dk_at dksX2_turned_0 23 rfl rfl)
theorem dX2_turned_24 : decode cX2_turned 24 = .ok (.iinc 3 1, 3) := dk_132 3 1 (dk_at dksX2_turned_1 0 rfl rfl)
theorem dX2_turned_27 : decode cX2_turned 27 = .ok (.goto (-23), 3) := dk_167 255 233 (dk_at dksX2_turned_1 3 rfl rfl)
theorem dX2_turned_30 : decode cX2_turned 30 = .ok (.iload_n 2, 1) := dk_28 (dk_at dksX2_turned_1 6 rfl rfl)
theorem dX2_turned_31 : decode cX2_turned 31 = .ok (.ireturn, 1) := dk_172 (dk_at dksX2_turned_1 7 rfl rfl)
abbrev cX2_judge : ByteArray := prog_11_method_63_code
def yX2_judge : MethodName := ⟨RX2, "judge", "(III)I"⟩
def dkwX2_judge_8 : List UInt8 := [21, 5, 167, 0, 5, 21, 6, 172]
abbrev dktX2_judge_8 : List UInt8 := dkwX2_judge_8 ++ []
def dkwX2_judge_7 : List UInt8 := [42, 182, 1, 62, 54, 7, 167, 255, 174, 29, 154, 0, 8, 21, 4, 167, 0, 15, 29, 4, 160, 0, 8]
abbrev dktX2_judge_7 : List UInt8 := dkwX2_judge_7 ++ dktX2_judge_8
def dkwX2_judge_6 : List UInt8 := [21, 5, 42, 21, 8, 182, 1, 44, 21, 4, 161, 0, 7, 4, 167, 0, 4, 3, 96, 54, 5, 132, 6, 1]
abbrev dktX2_judge_6 : List UInt8 := dkwX2_judge_6 ++ dktX2_judge_7
def dkwX2_judge_5 : List UInt8 := [180, 0, 102, 21, 9, 46, 104, 122, 6, 126, 5, 21, 9, 104, 120, 128, 54, 8, 132, 9, 1, 167, 255, 218]
abbrev dktX2_judge_5 : List UInt8 := dkwX2_judge_5 ++ dktX2_judge_6
def dkwX2_judge_4 : List UInt8 := [54, 8, 3, 54, 9, 21, 9, 42, 180, 1, 26, 162, 0, 35, 21, 8, 42, 180, 1, 56, 5, 42]
abbrev dktX2_judge_4 : List UInt8 := dkwX2_judge_4 ++ dktX2_judge_5
def dkwX2_judge_3 : List UInt8 := [42, 180, 0, 102, 21, 7, 21, 7, 79, 132, 7, 1, 167, 255, 237, 4, 54, 7, 21, 7, 153, 0, 83, 3]
abbrev dktX2_judge_3 : List UInt8 := dkwX2_judge_3 ++ dktX2_judge_4
def dkwX2_judge_2 : List UInt8 := [180, 1, 56, 182, 1, 44, 54, 4, 3, 54, 5, 3, 54, 6, 3, 54, 7, 21, 7, 16, 6, 162, 0, 18]
abbrev dktX2_judge_2 : List UInt8 := dkwX2_judge_2 ++ dktX2_judge_3
def dkwX2_judge_1 : List UInt8 := [9, 20, 0, 198, 184, 0, 138, 154, 0, 5, 2, 172, 42, 27, 182, 1, 59, 42, 28, 182, 1, 41, 42, 42]
abbrev dktX2_judge_1 : List UInt8 := dkwX2_judge_1 ++ dktX2_judge_2
def dkwX2_judge_0 : List UInt8 := [42, 27, 182, 1, 35, 153, 0, 29, 42, 28, 182, 1, 35, 153, 0, 21, 27, 28, 126, 154, 0, 15, 29, 133]
abbrev dktX2_judge_0 : List UInt8 := dkwX2_judge_0 ++ dktX2_judge_1
theorem dksX2_judge_0 : cX2_judge.data.toList.drop 0 = dktX2_judge_0 := by decide +kernel
theorem dksX2_judge_1 : cX2_judge.data.toList.drop 24 = dktX2_judge_1 := dk_seg dksX2_judge_0 24 rfl rfl
theorem dksX2_judge_2 : cX2_judge.data.toList.drop 48 = dktX2_judge_2 := dk_seg dksX2_judge_1 24 rfl rfl
theorem dksX2_judge_3 : cX2_judge.data.toList.drop 72 = dktX2_judge_3 := dk_seg dksX2_judge_2 24 rfl rfl
theorem dksX2_judge_4 : cX2_judge.data.toList.drop 96 = dktX2_judge_4 := dk_seg dksX2_judge_3 24 rfl rfl
theorem dksX2_judge_5 : cX2_judge.data.toList.drop 118 = dktX2_judge_5 := dk_seg dksX2_judge_4 22 rfl rfl
theorem dksX2_judge_6 : cX2_judge.data.toList.drop 142 = dktX2_judge_6 := dk_seg dksX2_judge_5 24 rfl rfl
theorem dksX2_judge_7 : cX2_judge.data.toList.drop 166 = dktX2_judge_7 := dk_seg dksX2_judge_6 24 rfl rfl
theorem dksX2_judge_8 : cX2_judge.data.toList.drop 189 = dktX2_judge_8 := dk_seg dksX2_judge_7 23 rfl rfl
theorem dX2_judge_0 : decode cX2_judge 0 = .ok (.aload_n 0, 1) := dk_42 (dk_at dksX2_judge_0 0 rfl rfl)
theorem dX2_judge_1 : decode cX2_judge 1 = .ok (.iload_n 1, 1) := dk_27 (dk_at dksX2_judge_0 1 rfl rfl)
theorem dX2_judge_2 : decode cX2_judge 2 = .ok (.invokevirtual 291, 3) := dk_182 1 35 (dk_at dksX2_judge_0 2 rfl rfl)
theorem dX2_judge_5 : decode cX2_judge 5 = .ok (.ifCond .eq 29, 3) := dk_153 0 29 (dk_at dksX2_judge_0 5 rfl rfl)
theorem dX2_judge_8 : decode cX2_judge 8 = .ok (.aload_n 0, 1) := dk_42 (dk_at dksX2_judge_0 8 rfl rfl)
theorem dX2_judge_9 : decode cX2_judge 9 = .ok (.iload_n 2, 1) := dk_28 (dk_at dksX2_judge_0 9 rfl rfl)
theorem dX2_judge_10 : decode cX2_judge 10 = .ok (.invokevirtual 291, 3) := dk_182 1 35 (dk_at dksX2_judge_0 10 rfl rfl)
theorem dX2_judge_13 : decode cX2_judge 13 = .ok (.ifCond .eq 21, 3) := dk_153 0 21 (dk_at dksX2_judge_0 13 rfl rfl)
theorem dX2_judge_16 : decode cX2_judge 16 = .ok (.iload_n 1, 1) := dk_27 (dk_at dksX2_judge_0 16 rfl rfl)
theorem dX2_judge_17 : decode cX2_judge 17 = .ok (.iload_n 2, 1) := dk_28 (dk_at dksX2_judge_0 17 rfl rfl)
theorem dX2_judge_18 : decode cX2_judge 18 = .ok (.iand, 1) := dk_126 (dk_at dksX2_judge_0 18 rfl rfl)
theorem dX2_judge_19 : decode cX2_judge 19 = .ok (.ifCond .ne 15, 3) := dk_154 0 15 (dk_at dksX2_judge_0 19 rfl rfl)
theorem dX2_judge_22 : decode cX2_judge 22 = .ok (.iload_n 3, 1) := dk_29 (dk_at dksX2_judge_0 22 rfl rfl)
theorem dX2_judge_23 : decode cX2_judge 23 = .ok (.i2l, 1) := dk_133 (dk_at dksX2_judge_0 23 rfl rfl)
theorem dX2_judge_24 : decode cX2_judge 24 = .ok (.lconst 0, 1) := dk_9 (dk_at dksX2_judge_1 0 rfl rfl)
theorem dX2_judge_25 : decode cX2_judge 25 = .ok (.ldc2_w 198, 3) := dk_20 0 198 (dk_at dksX2_judge_1 1 rfl rfl)
theorem dX2_judge_28 : decode cX2_judge 28 = .ok (.invokestatic 138, 3) := dk_184 0 138 (dk_at dksX2_judge_1 4 rfl rfl)
theorem dX2_judge_31 : decode cX2_judge 31 = .ok (.ifCond .ne 5, 3) := dk_154 0 5 (dk_at dksX2_judge_1 7 rfl rfl)
theorem dX2_judge_34 : decode cX2_judge 34 = .ok (.iconst (-1), 1) := dk_2 (dk_at dksX2_judge_1 10 rfl rfl)
theorem dX2_judge_35 : decode cX2_judge 35 = .ok (.ireturn, 1) := dk_172 (dk_at dksX2_judge_1 11 rfl rfl)
theorem dX2_judge_36 : decode cX2_judge 36 = .ok (.aload_n 0, 1) := dk_42 (dk_at dksX2_judge_1 12 rfl rfl)
theorem dX2_judge_37 : decode cX2_judge 37 = .ok (.iload_n 1, 1) := dk_27 (dk_at dksX2_judge_1 13 rfl rfl)
theorem dX2_judge_38 : decode cX2_judge 38 = .ok (.invokevirtual 315, 3) := dk_182 1 59 (dk_at dksX2_judge_1 14 rfl rfl)
theorem dX2_judge_41 : decode cX2_judge 41 = .ok (.aload_n 0, 1) := dk_42 (dk_at dksX2_judge_1 17 rfl rfl)
theorem dX2_judge_42 : decode cX2_judge 42 = .ok (.iload_n 2, 1) := dk_28 (dk_at dksX2_judge_1 18 rfl rfl)
theorem dX2_judge_43 : decode cX2_judge 43 = .ok (.invokevirtual 297, 3) := dk_182 1 41 (dk_at dksX2_judge_1 19 rfl rfl)
theorem dX2_judge_46 : decode cX2_judge 46 = .ok (.aload_n 0, 1) := dk_42 (dk_at dksX2_judge_1 22 rfl rfl)
theorem dX2_judge_47 : decode cX2_judge 47 = .ok (.aload_n 0, 1) := dk_42 (dk_at dksX2_judge_1 23 rfl rfl)
theorem dX2_judge_48 : decode cX2_judge 48 = .ok (.getfield 312, 3) := dk_180 1 56 (dk_at dksX2_judge_2 0 rfl rfl)
theorem dX2_judge_51 : decode cX2_judge 51 = .ok (.invokevirtual 300, 3) := dk_182 1 44 (dk_at dksX2_judge_2 3 rfl rfl)
theorem dX2_judge_54 : decode cX2_judge 54 = .ok (.istore 4, 2) := dk_54 4 (dk_at dksX2_judge_2 6 rfl rfl)
theorem dX2_judge_56 : decode cX2_judge 56 = .ok (.iconst 0, 1) := dk_3 (dk_at dksX2_judge_2 8 rfl rfl)
theorem dX2_judge_57 : decode cX2_judge 57 = .ok (.istore 5, 2) := dk_54 5 (dk_at dksX2_judge_2 9 rfl rfl)
theorem dX2_judge_59 : decode cX2_judge 59 = .ok (.iconst 0, 1) := dk_3 (dk_at dksX2_judge_2 11 rfl rfl)
theorem dX2_judge_60 : decode cX2_judge 60 = .ok (.istore 6, 2) := dk_54 6 (dk_at dksX2_judge_2 12 rfl rfl)
theorem dX2_judge_62 : decode cX2_judge 62 = .ok (.iconst 0, 1) := dk_3 (dk_at dksX2_judge_2 14 rfl rfl)
theorem dX2_judge_63 : decode cX2_judge 63 = .ok (.istore 7, 2) := dk_54 7 (dk_at dksX2_judge_2 15 rfl rfl)
theorem dX2_judge_65 : decode cX2_judge 65 = .ok (.iload 7, 2) := dk_21 7 (dk_at dksX2_judge_2 17 rfl rfl)
theorem dX2_judge_67 : decode cX2_judge 67 = .ok (.bipush 6, 2) := dk_16 6 (dk_at dksX2_judge_2 19 rfl rfl)
theorem dX2_judge_69 : decode cX2_judge 69 = .ok (.if_icmp .ge 18, 3) := dk_162 0 18 (dk_at dksX2_judge_2 21 rfl rfl)
theorem dX2_judge_72 : decode cX2_judge 72 = .ok (.aload_n 0, 1) := dk_42 (dk_at dksX2_judge_3 0 rfl rfl)
theorem dX2_judge_73 : decode cX2_judge 73 = .ok (.getfield 102, 3) := dk_180 0 102 (dk_at dksX2_judge_3 1 rfl rfl)
theorem dX2_judge_76 : decode cX2_judge 76 = .ok (.iload 7, 2) := dk_21 7 (dk_at dksX2_judge_3 4 rfl rfl)
theorem dX2_judge_78 : decode cX2_judge 78 = .ok (.iload 7, 2) := dk_21 7 (dk_at dksX2_judge_3 6 rfl rfl)
theorem dX2_judge_80 : decode cX2_judge 80 = .ok (.iastore, 1) := dk_79 (dk_at dksX2_judge_3 8 rfl rfl)
theorem dX2_judge_81 : decode cX2_judge 81 = .ok (.iinc 7 1, 3) := dk_132 7 1 (dk_at dksX2_judge_3 9 rfl rfl)
theorem dX2_judge_84 : decode cX2_judge 84 = .ok (.goto (-19), 3) := dk_167 255 237 (dk_at dksX2_judge_3 12 rfl rfl)
theorem dX2_judge_87 : decode cX2_judge 87 = .ok (.iconst 1, 1) := dk_4 (dk_at dksX2_judge_3 15 rfl rfl)
theorem dX2_judge_88 : decode cX2_judge 88 = .ok (.istore 7, 2) := dk_54 7 (dk_at dksX2_judge_3 16 rfl rfl)
theorem dX2_judge_90 : decode cX2_judge 90 = .ok (.iload 7, 2) := dk_21 7 (dk_at dksX2_judge_3 18 rfl rfl)
theorem dX2_judge_92 : decode cX2_judge 92 = .ok (.ifCond .eq 83, 3) := dk_153 0 83 (dk_at dksX2_judge_3 20 rfl rfl)
theorem dX2_judge_95 : decode cX2_judge 95 = .ok (.iconst 0, 1) := dk_3 (dk_at dksX2_judge_3 23 rfl rfl)
theorem dX2_judge_96 : decode cX2_judge 96 = .ok (.istore 8, 2) := dk_54 8 (dk_at dksX2_judge_4 0 rfl rfl)
theorem dX2_judge_98 : decode cX2_judge 98 = .ok (.iconst 0, 1) := dk_3 (dk_at dksX2_judge_4 2 rfl rfl)
theorem dX2_judge_99 : decode cX2_judge 99 = .ok (.istore 9, 2) := dk_54 9 (dk_at dksX2_judge_4 3 rfl rfl)
theorem dX2_judge_101 : decode cX2_judge 101 = .ok (.iload 9, 2) := dk_21 9 (dk_at dksX2_judge_4 5 rfl rfl)
theorem dX2_judge_103 : decode cX2_judge 103 = .ok (.aload_n 0, 1) := dk_42 (dk_at dksX2_judge_4 7 rfl rfl)
theorem dX2_judge_104 : decode cX2_judge 104 = .ok (.getfield 282, 3) := dk_180 1 26 (dk_at dksX2_judge_4 8 rfl rfl)
theorem dX2_judge_107 : decode cX2_judge 107 = .ok (.if_icmp .ge 35, 3) := dk_162 0 35 (dk_at dksX2_judge_4 11 rfl rfl)
theorem dX2_judge_110 : decode cX2_judge 110 = .ok (.iload 8, 2) := dk_21 8 (dk_at dksX2_judge_4 14 rfl rfl)
theorem dX2_judge_112 : decode cX2_judge 112 = .ok (.aload_n 0, 1) := dk_42 (dk_at dksX2_judge_4 16 rfl rfl)
theorem dX2_judge_113 : decode cX2_judge 113 = .ok (.getfield 312, 3) := dk_180 1 56 (dk_at dksX2_judge_4 17 rfl rfl)
theorem dX2_judge_116 : decode cX2_judge 116 = .ok (.iconst 2, 1) := dk_5 (dk_at dksX2_judge_4 20 rfl rfl)
theorem dX2_judge_117 : decode cX2_judge 117 = .ok (.aload_n 0, 1) := dk_42 (dk_at dksX2_judge_4 21 rfl rfl)
theorem dX2_judge_118 : decode cX2_judge 118 = .ok (.getfield 102, 3) := dk_180 0 102 (dk_at dksX2_judge_5 0 rfl rfl)
theorem dX2_judge_121 : decode cX2_judge 121 = .ok (.iload 9, 2) := dk_21 9 (dk_at dksX2_judge_5 3 rfl rfl)
theorem dX2_judge_123 : decode cX2_judge 123 = .ok (.iaload, 1) := dk_46 (dk_at dksX2_judge_5 5 rfl rfl)
theorem dX2_judge_124 : decode cX2_judge 124 = .ok (.imul, 1) := dk_104 (dk_at dksX2_judge_5 6 rfl rfl)
theorem dX2_judge_125 : decode cX2_judge 125 = .ok (.ishr, 1) := dk_122 (dk_at dksX2_judge_5 7 rfl rfl)
theorem dX2_judge_126 : decode cX2_judge 126 = .ok (.iconst 3, 1) := dk_6 (dk_at dksX2_judge_5 8 rfl rfl)
theorem dX2_judge_127 : decode cX2_judge 127 = .ok (.iand, 1) := dk_126 (dk_at dksX2_judge_5 9 rfl rfl)
theorem dX2_judge_128 : decode cX2_judge 128 = .ok (.iconst 2, 1) := dk_5 (dk_at dksX2_judge_5 10 rfl rfl)
theorem dX2_judge_129 : decode cX2_judge 129 = .ok (.iload 9, 2) := dk_21 9 (dk_at dksX2_judge_5 11 rfl rfl)
theorem dX2_judge_131 : decode cX2_judge 131 = .ok (.imul, 1) := dk_104 (dk_at dksX2_judge_5 13 rfl rfl)
theorem dX2_judge_132 : decode cX2_judge 132 = .ok (.ishl, 1) := dk_120 (dk_at dksX2_judge_5 14 rfl rfl)
theorem dX2_judge_133 : decode cX2_judge 133 = .ok (.ior, 1) := dk_128 (dk_at dksX2_judge_5 15 rfl rfl)
theorem dX2_judge_134 : decode cX2_judge 134 = .ok (.istore 8, 2) := dk_54 8 (dk_at dksX2_judge_5 16 rfl rfl)
theorem dX2_judge_136 : decode cX2_judge 136 = .ok (.iinc 9 1, 3) := dk_132 9 1 (dk_at dksX2_judge_5 18 rfl rfl)
theorem dX2_judge_139 : decode cX2_judge 139 = .ok (.goto (-38), 3) := dk_167 255 218 (dk_at dksX2_judge_5 21 rfl rfl)
theorem dX2_judge_142 : decode cX2_judge 142 = .ok (.iload 5, 2) := dk_21 5 (dk_at dksX2_judge_6 0 rfl rfl)
theorem dX2_judge_144 : decode cX2_judge 144 = .ok (.aload_n 0, 1) := dk_42 (dk_at dksX2_judge_6 2 rfl rfl)
theorem dX2_judge_145 : decode cX2_judge 145 = .ok (.iload 8, 2) := dk_21 8 (dk_at dksX2_judge_6 3 rfl rfl)
theorem dX2_judge_147 : decode cX2_judge 147 = .ok (.invokevirtual 300, 3) := dk_182 1 44 (dk_at dksX2_judge_6 5 rfl rfl)
theorem dX2_judge_150 : decode cX2_judge 150 = .ok (.iload 4, 2) := dk_21 4 (dk_at dksX2_judge_6 8 rfl rfl)
theorem dX2_judge_152 : decode cX2_judge 152 = .ok (.if_icmp .lt 7, 3) := dk_161 0 7 (dk_at dksX2_judge_6 10 rfl rfl)
theorem dX2_judge_155 : decode cX2_judge 155 = .ok (.iconst 1, 1) := dk_4 (dk_at dksX2_judge_6 13 rfl rfl)
theorem dX2_judge_156 : decode cX2_judge 156 = .ok (.goto 4, 3) := dk_167 0 4 (dk_at dksX2_judge_6 14 rfl rfl)
theorem dX2_judge_159 : decode cX2_judge 159 = .ok (.iconst 0, 1) := dk_3 (dk_at dksX2_judge_6 17 rfl rfl)
theorem dX2_judge_160 : decode cX2_judge 160 = .ok (.iadd, 1) := dk_96 (dk_at dksX2_judge_6 18 rfl rfl)
theorem dX2_judge_161 : decode cX2_judge 161 = .ok (.istore 5, 2) := dk_54 5 (dk_at dksX2_judge_6 19 rfl rfl)
theorem dX2_judge_163 : decode cX2_judge 163 = .ok (.iinc 6 1, 3) := dk_132 6 1 (dk_at dksX2_judge_6 21 rfl rfl)
theorem dX2_judge_166 : decode cX2_judge 166 = .ok (.aload_n 0, 1) := dk_42 (dk_at dksX2_judge_7 0 rfl rfl)
theorem dX2_judge_167 : decode cX2_judge 167 = .ok (.invokevirtual 318, 3) := dk_182 1 62 (dk_at dksX2_judge_7 1 rfl rfl)
theorem dX2_judge_170 : decode cX2_judge 170 = .ok (.istore 7, 2) := dk_54 7 (dk_at dksX2_judge_7 4 rfl rfl)
theorem dX2_judge_172 : decode cX2_judge 172 = .ok (.goto (-82), 3) := dk_167 255 174 (dk_at dksX2_judge_7 6 rfl rfl)
theorem dX2_judge_175 : decode cX2_judge 175 = .ok (.iload_n 3, 1) := dk_29 (dk_at dksX2_judge_7 9 rfl rfl)
theorem dX2_judge_176 : decode cX2_judge 176 = .ok (.ifCond .ne 8, 3) := dk_154 0 8 (dk_at dksX2_judge_7 10 rfl rfl)
theorem dX2_judge_179 : decode cX2_judge 179 = .ok (.iload 4, 2) := dk_21 4 (dk_at dksX2_judge_7 13 rfl rfl)
theorem dX2_judge_181 : decode cX2_judge 181 = .ok (.goto 15, 3) := dk_167 0 15 (dk_at dksX2_judge_7 15 rfl rfl)
theorem dX2_judge_184 : decode cX2_judge 184 = .ok (.iload_n 3, 1) := dk_29 (dk_at dksX2_judge_7 18 rfl rfl)
theorem dX2_judge_185 : decode cX2_judge 185 = .ok (.iconst 1, 1) := dk_4 (dk_at dksX2_judge_7 19 rfl rfl)
theorem dX2_judge_186 : decode cX2_judge 186 = .ok (.if_icmp .ne 8, 3) := dk_160 0 8 (dk_at dksX2_judge_7 20 rfl rfl)
theorem dX2_judge_189 : decode cX2_judge 189 = .ok (.iload 5, 2) := dk_21 5 (dk_at dksX2_judge_8 0 rfl rfl)
theorem dX2_judge_191 : decode cX2_judge 191 = .ok (.goto 5, 3) := dk_167 0 5 (dk_at dksX2_judge_8 2 rfl rfl)
theorem dX2_judge_194 : decode cX2_judge 194 = .ok (.iload 6, 2) := dk_21 6 (dk_at dksX2_judge_8 5 rfl rfl)
theorem dX2_judge_196 : decode cX2_judge 196 = .ok (.ireturn, 1) := dk_172 (dk_at dksX2_judge_8 7 rfl rfl)
abbrev cX2_goesOn : ByteArray := prog_11_method_62_code
def yX2_goesOn : MethodName := ⟨RX2, "goesOn", "()Z"⟩
def dkwX2_goesOn_6 : List UInt8 := [132, 4, 1, 132, 5, 255, 167, 255, 213, 4, 172]
abbrev dktX2_goesOn_6 : List UInt8 := dkwX2_goesOn_6 ++ []
def dkwX2_goesOn_5 : List UInt8 := [46, 62, 42, 180, 0, 102, 21, 4, 42, 180, 0, 102, 21, 5, 46, 79, 42, 180, 0, 102, 21, 5, 29, 79]
abbrev dktX2_goesOn_5 : List UInt8 := dkwX2_goesOn_5 ++ dktX2_goesOn_6
def dkwX2_goesOn_4 : List UInt8 := [96, 54, 4, 42, 180, 1, 26, 4, 100, 54, 5, 21, 4, 21, 5, 162, 0, 42, 42, 180, 0, 102, 21, 4]
abbrev dktX2_goesOn_4 : List UInt8 := dkwX2_goesOn_4 ++ dktX2_goesOn_5
def dkwX2_goesOn_3 : List UInt8 := [27, 46, 62, 42, 180, 0, 102, 27, 42, 180, 0, 102, 28, 46, 79, 42, 180, 0, 102, 28, 29, 79, 27, 4]
abbrev dktX2_goesOn_3 : List UInt8 := dkwX2_goesOn_3 ++ dktX2_goesOn_4
def dkwX2_goesOn_2 : List UInt8 := [180, 0, 102, 28, 46, 42, 180, 0, 102, 27, 46, 162, 0, 9, 132, 2, 255, 167, 255, 238, 42, 180, 0, 102]
abbrev dktX2_goesOn_2 : List UInt8 := dkwX2_goesOn_2 ++ dktX2_goesOn_3
def dkwX2_goesOn_1 : List UInt8 := [46, 164, 0, 9, 132, 1, 255, 167, 255, 232, 27, 156, 0, 5, 3, 172, 42, 180, 1, 26, 4, 100, 61, 42]
abbrev dktX2_goesOn_1 : List UInt8 := dkwX2_goesOn_1 ++ dktX2_goesOn_2
def dkwX2_goesOn_0 : List UInt8 := [42, 180, 1, 26, 5, 100, 60, 27, 155, 0, 26, 42, 180, 0, 102, 27, 46, 42, 180, 0, 102, 27, 4, 96]
abbrev dktX2_goesOn_0 : List UInt8 := dkwX2_goesOn_0 ++ dktX2_goesOn_1
theorem dksX2_goesOn_0 : cX2_goesOn.data.toList.drop 0 = dktX2_goesOn_0 := by decide +kernel
theorem dksX2_goesOn_1 : cX2_goesOn.data.toList.drop 24 = dktX2_goesOn_1 := dk_seg dksX2_goesOn_0 24 rfl rfl
theorem dksX2_goesOn_2 : cX2_goesOn.data.toList.drop 48 = dktX2_goesOn_2 := dk_seg dksX2_goesOn_1 24 rfl rfl
theorem dksX2_goesOn_3 : cX2_goesOn.data.toList.drop 72 = dktX2_goesOn_3 := dk_seg dksX2_goesOn_2 24 rfl rfl
theorem dksX2_goesOn_4 : cX2_goesOn.data.toList.drop 96 = dktX2_goesOn_4 := dk_seg dksX2_goesOn_3 24 rfl rfl
theorem dksX2_goesOn_5 : cX2_goesOn.data.toList.drop 120 = dktX2_goesOn_5 := dk_seg dksX2_goesOn_4 24 rfl rfl
theorem dksX2_goesOn_6 : cX2_goesOn.data.toList.drop 144 = dktX2_goesOn_6 := dk_seg dksX2_goesOn_5 24 rfl rfl
theorem dX2_goesOn_0 : decode cX2_goesOn 0 = .ok (.aload_n 0, 1) := dk_42 (dk_at dksX2_goesOn_0 0 rfl rfl)
theorem dX2_goesOn_1 : decode cX2_goesOn 1 = .ok (.getfield 282, 3) := dk_180 1 26 (dk_at dksX2_goesOn_0 1 rfl rfl)
theorem dX2_goesOn_4 : decode cX2_goesOn 4 = .ok (.iconst 2, 1) := dk_5 (dk_at dksX2_goesOn_0 4 rfl rfl)
theorem dX2_goesOn_5 : decode cX2_goesOn 5 = .ok (.isub, 1) := dk_100 (dk_at dksX2_goesOn_0 5 rfl rfl)
theorem dX2_goesOn_6 : decode cX2_goesOn 6 = .ok (.istore_n 1, 1) := dk_60 (dk_at dksX2_goesOn_0 6 rfl rfl)
theorem dX2_goesOn_7 : decode cX2_goesOn 7 = .ok (.iload_n 1, 1) := dk_27 (dk_at dksX2_goesOn_0 7 rfl rfl)
theorem dX2_goesOn_8 : decode cX2_goesOn 8 = .ok (.ifCond .lt 26, 3) := dk_155 0 26 (dk_at dksX2_goesOn_0 8 rfl rfl)
theorem dX2_goesOn_11 : decode cX2_goesOn 11 = .ok (.aload_n 0, 1) := dk_42 (dk_at dksX2_goesOn_0 11 rfl rfl)
theorem dX2_goesOn_12 : decode cX2_goesOn 12 = .ok (.getfield 102, 3) := dk_180 0 102 (dk_at dksX2_goesOn_0 12 rfl rfl)
theorem dX2_goesOn_15 : decode cX2_goesOn 15 = .ok (.iload_n 1, 1) := dk_27 (dk_at dksX2_goesOn_0 15 rfl rfl)
theorem dX2_goesOn_16 : decode cX2_goesOn 16 = .ok (.iaload, 1) := dk_46 (dk_at dksX2_goesOn_0 16 rfl rfl)
theorem dX2_goesOn_17 : decode cX2_goesOn 17 = .ok (.aload_n 0, 1) := dk_42 (dk_at dksX2_goesOn_0 17 rfl rfl)
theorem dX2_goesOn_18 : decode cX2_goesOn 18 = .ok (.getfield 102, 3) := dk_180 0 102 (dk_at dksX2_goesOn_0 18 rfl rfl)
theorem dX2_goesOn_21 : decode cX2_goesOn 21 = .ok (.iload_n 1, 1) := dk_27 (dk_at dksX2_goesOn_0 21 rfl rfl)
theorem dX2_goesOn_22 : decode cX2_goesOn 22 = .ok (.iconst 1, 1) := dk_4 (dk_at dksX2_goesOn_0 22 rfl rfl)
theorem dX2_goesOn_23 : decode cX2_goesOn 23 = .ok (.iadd, 1) := dk_96 (dk_at dksX2_goesOn_0 23 rfl rfl)
theorem dX2_goesOn_24 : decode cX2_goesOn 24 = .ok (.iaload, 1) := dk_46 (dk_at dksX2_goesOn_1 0 rfl rfl)
theorem dX2_goesOn_25 : decode cX2_goesOn 25 = .ok (.if_icmp .le 9, 3) := dk_164 0 9 (dk_at dksX2_goesOn_1 1 rfl rfl)
theorem dX2_goesOn_28 : decode cX2_goesOn 28 = .ok (.iinc 1 (-1), 3) := dk_132 1 255 (dk_at dksX2_goesOn_1 4 rfl rfl)
theorem dX2_goesOn_31 : decode cX2_goesOn 31 = .ok (.goto (-24), 3) := dk_167 255 232 (dk_at dksX2_goesOn_1 7 rfl rfl)
theorem dX2_goesOn_34 : decode cX2_goesOn 34 = .ok (.iload_n 1, 1) := dk_27 (dk_at dksX2_goesOn_1 10 rfl rfl)
theorem dX2_goesOn_35 : decode cX2_goesOn 35 = .ok (.ifCond .ge 5, 3) := dk_156 0 5 (dk_at dksX2_goesOn_1 11 rfl rfl)
theorem dX2_goesOn_38 : decode cX2_goesOn 38 = .ok (.iconst 0, 1) := dk_3 (dk_at dksX2_goesOn_1 14 rfl rfl)
theorem dX2_goesOn_39 : decode cX2_goesOn 39 = .ok (.ireturn, 1) := dk_172 (dk_at dksX2_goesOn_1 15 rfl rfl)
theorem dX2_goesOn_40 : decode cX2_goesOn 40 = .ok (.aload_n 0, 1) := dk_42 (dk_at dksX2_goesOn_1 16 rfl rfl)
theorem dX2_goesOn_41 : decode cX2_goesOn 41 = .ok (.getfield 282, 3) := dk_180 1 26 (dk_at dksX2_goesOn_1 17 rfl rfl)
theorem dX2_goesOn_44 : decode cX2_goesOn 44 = .ok (.iconst 1, 1) := dk_4 (dk_at dksX2_goesOn_1 20 rfl rfl)
theorem dX2_goesOn_45 : decode cX2_goesOn 45 = .ok (.isub, 1) := dk_100 (dk_at dksX2_goesOn_1 21 rfl rfl)
theorem dX2_goesOn_46 : decode cX2_goesOn 46 = .ok (.istore_n 2, 1) := dk_61 (dk_at dksX2_goesOn_1 22 rfl rfl)
theorem dX2_goesOn_47 : decode cX2_goesOn 47 = .ok (.aload_n 0, 1) := dk_42 (dk_at dksX2_goesOn_1 23 rfl rfl)
theorem dX2_goesOn_48 : decode cX2_goesOn 48 = .ok (.getfield 102, 3) := dk_180 0 102 (dk_at dksX2_goesOn_2 0 rfl rfl)
theorem dX2_goesOn_51 : decode cX2_goesOn 51 = .ok (.iload_n 2, 1) := dk_28 (dk_at dksX2_goesOn_2 3 rfl rfl)
theorem dX2_goesOn_52 : decode cX2_goesOn 52 = .ok (.iaload, 1) := dk_46 (dk_at dksX2_goesOn_2 4 rfl rfl)
theorem dX2_goesOn_53 : decode cX2_goesOn 53 = .ok (.aload_n 0, 1) := dk_42 (dk_at dksX2_goesOn_2 5 rfl rfl)
theorem dX2_goesOn_54 : decode cX2_goesOn 54 = .ok (.getfield 102, 3) := dk_180 0 102 (dk_at dksX2_goesOn_2 6 rfl rfl)
theorem dX2_goesOn_57 : decode cX2_goesOn 57 = .ok (.iload_n 1, 1) := dk_27 (dk_at dksX2_goesOn_2 9 rfl rfl)
theorem dX2_goesOn_58 : decode cX2_goesOn 58 = .ok (.iaload, 1) := dk_46 (dk_at dksX2_goesOn_2 10 rfl rfl)
theorem dX2_goesOn_59 : decode cX2_goesOn 59 = .ok (.if_icmp .ge 9, 3) := dk_162 0 9 (dk_at dksX2_goesOn_2 11 rfl rfl)
theorem dX2_goesOn_62 : decode cX2_goesOn 62 = .ok (.iinc 2 (-1), 3) := dk_132 2 255 (dk_at dksX2_goesOn_2 14 rfl rfl)
theorem dX2_goesOn_65 : decode cX2_goesOn 65 = .ok (.goto (-18), 3) := dk_167 255 238 (dk_at dksX2_goesOn_2 17 rfl rfl)
theorem dX2_goesOn_68 : decode cX2_goesOn 68 = .ok (.aload_n 0, 1) := dk_42 (dk_at dksX2_goesOn_2 20 rfl rfl)
theorem dX2_goesOn_69 : decode cX2_goesOn 69 = .ok (.getfield 102, 3) := dk_180 0 102 (dk_at dksX2_goesOn_2 21 rfl rfl)
theorem dX2_goesOn_72 : decode cX2_goesOn 72 = .ok (.iload_n 1, 1) := dk_27 (dk_at dksX2_goesOn_3 0 rfl rfl)
theorem dX2_goesOn_73 : decode cX2_goesOn 73 = .ok (.iaload, 1) := dk_46 (dk_at dksX2_goesOn_3 1 rfl rfl)
theorem dX2_goesOn_74 : decode cX2_goesOn 74 = .ok (.istore_n 3, 1) := dk_62 (dk_at dksX2_goesOn_3 2 rfl rfl)
theorem dX2_goesOn_75 : decode cX2_goesOn 75 = .ok (.aload_n 0, 1) := dk_42 (dk_at dksX2_goesOn_3 3 rfl rfl)
theorem dX2_goesOn_76 : decode cX2_goesOn 76 = .ok (.getfield 102, 3) := dk_180 0 102 (dk_at dksX2_goesOn_3 4 rfl rfl)
theorem dX2_goesOn_79 : decode cX2_goesOn 79 = .ok (.iload_n 1, 1) := dk_27 (dk_at dksX2_goesOn_3 7 rfl rfl)
theorem dX2_goesOn_80 : decode cX2_goesOn 80 = .ok (.aload_n 0, 1) := dk_42 (dk_at dksX2_goesOn_3 8 rfl rfl)
theorem dX2_goesOn_81 : decode cX2_goesOn 81 = .ok (.getfield 102, 3) := dk_180 0 102 (dk_at dksX2_goesOn_3 9 rfl rfl)
theorem dX2_goesOn_84 : decode cX2_goesOn 84 = .ok (.iload_n 2, 1) := dk_28 (dk_at dksX2_goesOn_3 12 rfl rfl)
theorem dX2_goesOn_85 : decode cX2_goesOn 85 = .ok (.iaload, 1) := dk_46 (dk_at dksX2_goesOn_3 13 rfl rfl)
theorem dX2_goesOn_86 : decode cX2_goesOn 86 = .ok (.iastore, 1) := dk_79 (dk_at dksX2_goesOn_3 14 rfl rfl)
theorem dX2_goesOn_87 : decode cX2_goesOn 87 = .ok (.aload_n 0, 1) := dk_42 (dk_at dksX2_goesOn_3 15 rfl rfl)
theorem dX2_goesOn_88 : decode cX2_goesOn 88 = .ok (.getfield 102, 3) := dk_180 0 102 (dk_at dksX2_goesOn_3 16 rfl rfl)
theorem dX2_goesOn_91 : decode cX2_goesOn 91 = .ok (.iload_n 2, 1) := dk_28 (dk_at dksX2_goesOn_3 19 rfl rfl)
theorem dX2_goesOn_92 : decode cX2_goesOn 92 = .ok (.iload_n 3, 1) := dk_29 (dk_at dksX2_goesOn_3 20 rfl rfl)
theorem dX2_goesOn_93 : decode cX2_goesOn 93 = .ok (.iastore, 1) := dk_79 (dk_at dksX2_goesOn_3 21 rfl rfl)
theorem dX2_goesOn_94 : decode cX2_goesOn 94 = .ok (.iload_n 1, 1) := dk_27 (dk_at dksX2_goesOn_3 22 rfl rfl)
theorem dX2_goesOn_95 : decode cX2_goesOn 95 = .ok (.iconst 1, 1) := dk_4 (dk_at dksX2_goesOn_3 23 rfl rfl)
theorem dX2_goesOn_96 : decode cX2_goesOn 96 = .ok (.iadd, 1) := dk_96 (dk_at dksX2_goesOn_4 0 rfl rfl)
theorem dX2_goesOn_97 : decode cX2_goesOn 97 = .ok (.istore 4, 2) := dk_54 4 (dk_at dksX2_goesOn_4 1 rfl rfl)
theorem dX2_goesOn_99 : decode cX2_goesOn 99 = .ok (.aload_n 0, 1) := dk_42 (dk_at dksX2_goesOn_4 3 rfl rfl)
theorem dX2_goesOn_100 : decode cX2_goesOn 100 = .ok (.getfield 282, 3) := dk_180 1 26 (dk_at dksX2_goesOn_4 4 rfl rfl)
theorem dX2_goesOn_103 : decode cX2_goesOn 103 = .ok (.iconst 1, 1) := dk_4 (dk_at dksX2_goesOn_4 7 rfl rfl)
theorem dX2_goesOn_104 : decode cX2_goesOn 104 = .ok (.isub, 1) := dk_100 (dk_at dksX2_goesOn_4 8 rfl rfl)
theorem dX2_goesOn_105 : decode cX2_goesOn 105 = .ok (.istore 5, 2) := dk_54 5 (dk_at dksX2_goesOn_4 9 rfl rfl)
theorem dX2_goesOn_107 : decode cX2_goesOn 107 = .ok (.iload 4, 2) := dk_21 4 (dk_at dksX2_goesOn_4 11 rfl rfl)
theorem dX2_goesOn_109 : decode cX2_goesOn 109 = .ok (.iload 5, 2) := dk_21 5 (dk_at dksX2_goesOn_4 13 rfl rfl)
theorem dX2_goesOn_111 : decode cX2_goesOn 111 = .ok (.if_icmp .ge 42, 3) := dk_162 0 42 (dk_at dksX2_goesOn_4 15 rfl rfl)
theorem dX2_goesOn_114 : decode cX2_goesOn 114 = .ok (.aload_n 0, 1) := dk_42 (dk_at dksX2_goesOn_4 18 rfl rfl)
theorem dX2_goesOn_115 : decode cX2_goesOn 115 = .ok (.getfield 102, 3) := dk_180 0 102 (dk_at dksX2_goesOn_4 19 rfl rfl)
theorem dX2_goesOn_118 : decode cX2_goesOn 118 = .ok (.iload 4, 2) := dk_21 4 (dk_at dksX2_goesOn_4 22 rfl rfl)
theorem dX2_goesOn_120 : decode cX2_goesOn 120 = .ok (.iaload, 1) := dk_46 (dk_at dksX2_goesOn_5 0 rfl rfl)
theorem dX2_goesOn_121 : decode cX2_goesOn 121 = .ok (.istore_n 3, 1) := dk_62 (dk_at dksX2_goesOn_5 1 rfl rfl)
theorem dX2_goesOn_122 : decode cX2_goesOn 122 = .ok (.aload_n 0, 1) := dk_42 (dk_at dksX2_goesOn_5 2 rfl rfl)
theorem dX2_goesOn_123 : decode cX2_goesOn 123 = .ok (.getfield 102, 3) := dk_180 0 102 (dk_at dksX2_goesOn_5 3 rfl rfl)
theorem dX2_goesOn_126 : decode cX2_goesOn 126 = .ok (.iload 4, 2) := dk_21 4 (dk_at dksX2_goesOn_5 6 rfl rfl)
theorem dX2_goesOn_128 : decode cX2_goesOn 128 = .ok (.aload_n 0, 1) := dk_42 (dk_at dksX2_goesOn_5 8 rfl rfl)
theorem dX2_goesOn_129 : decode cX2_goesOn 129 = .ok (.getfield 102, 3) := dk_180 0 102 (dk_at dksX2_goesOn_5 9 rfl rfl)
theorem dX2_goesOn_132 : decode cX2_goesOn 132 = .ok (.iload 5, 2) := dk_21 5 (dk_at dksX2_goesOn_5 12 rfl rfl)
theorem dX2_goesOn_134 : decode cX2_goesOn 134 = .ok (.iaload, 1) := dk_46 (dk_at dksX2_goesOn_5 14 rfl rfl)
theorem dX2_goesOn_135 : decode cX2_goesOn 135 = .ok (.iastore, 1) := dk_79 (dk_at dksX2_goesOn_5 15 rfl rfl)
theorem dX2_goesOn_136 : decode cX2_goesOn 136 = .ok (.aload_n 0, 1) := dk_42 (dk_at dksX2_goesOn_5 16 rfl rfl)
theorem dX2_goesOn_137 : decode cX2_goesOn 137 = .ok (.getfield 102, 3) := dk_180 0 102 (dk_at dksX2_goesOn_5 17 rfl rfl)
theorem dX2_goesOn_140 : decode cX2_goesOn 140 = .ok (.iload 5, 2) := dk_21 5 (dk_at dksX2_goesOn_5 20 rfl rfl)
theorem dX2_goesOn_142 : decode cX2_goesOn 142 = .ok (.iload_n 3, 1) := dk_29 (dk_at dksX2_goesOn_5 22 rfl rfl)
theorem dX2_goesOn_143 : decode cX2_goesOn 143 = .ok (.iastore, 1) := dk_79 (dk_at dksX2_goesOn_5 23 rfl rfl)
theorem dX2_goesOn_144 : decode cX2_goesOn 144 = .ok (.iinc 4 1, 3) := dk_132 4 1 (dk_at dksX2_goesOn_6 0 rfl rfl)
theorem dX2_goesOn_147 : decode cX2_goesOn 147 = .ok (.iinc 5 (-1), 3) := dk_132 5 255 (dk_at dksX2_goesOn_6 3 rfl rfl)
theorem dX2_goesOn_150 : decode cX2_goesOn 150 = .ok (.goto (-43), 3) := dk_167 255 213 (dk_at dksX2_goesOn_6 6 rfl rfl)
theorem dX2_goesOn_153 : decode cX2_goesOn 153 = .ok (.iconst 1, 1) := dk_4 (dk_at dksX2_goesOn_6 9 rfl rfl)
theorem dX2_goesOn_154 : decode cX2_goesOn 154 = .ok (.ireturn, 1) := dk_172 (dk_at dksX2_goesOn_6 10 rfl rfl)
abbrev cX2_feed : ByteArray := prog_11_method_64_code
def yX2_feed : MethodName := ⟨RX2, "feed", "(J)I"⟩
def dkwX2_feed_2 : List UInt8 := [181, 1, 65, 132, 3, 248, 167, 255, 222, 42, 180, 1, 65, 172]
abbrev dktX2_feed_2 : List UInt8 := dkwX2_feed_2 ++ []
def dkwX2_feed_1 : List UInt8 := [180, 0, 105, 42, 180, 1, 65, 31, 29, 123, 20, 1, 68, 127, 136, 79, 42, 89, 180, 1, 65, 4, 96]
abbrev dktX2_feed_1 : List UInt8 := dkwX2_feed_1 ++ dktX2_feed_2
def dkwX2_feed_0 : List UInt8 := [42, 180, 1, 65, 16, 8, 96, 17, 0, 160, 164, 0, 6, 16, 253, 172, 16, 56, 62, 29, 155, 0, 36, 42]
abbrev dktX2_feed_0 : List UInt8 := dkwX2_feed_0 ++ dktX2_feed_1
theorem dksX2_feed_0 : cX2_feed.data.toList.drop 0 = dktX2_feed_0 := by decide +kernel
theorem dksX2_feed_1 : cX2_feed.data.toList.drop 24 = dktX2_feed_1 := dk_seg dksX2_feed_0 24 rfl rfl
theorem dksX2_feed_2 : cX2_feed.data.toList.drop 47 = dktX2_feed_2 := dk_seg dksX2_feed_1 23 rfl rfl
theorem dX2_feed_0 : decode cX2_feed 0 = .ok (.aload_n 0, 1) := dk_42 (dk_at dksX2_feed_0 0 rfl rfl)
theorem dX2_feed_1 : decode cX2_feed 1 = .ok (.getfield 321, 3) := dk_180 1 65 (dk_at dksX2_feed_0 1 rfl rfl)
theorem dX2_feed_4 : decode cX2_feed 4 = .ok (.bipush 8, 2) := dk_16 8 (dk_at dksX2_feed_0 4 rfl rfl)
theorem dX2_feed_6 : decode cX2_feed 6 = .ok (.iadd, 1) := dk_96 (dk_at dksX2_feed_0 6 rfl rfl)
theorem dX2_feed_7 : decode cX2_feed 7 = .ok (.sipush 160, 3) := dk_17 0 160 (dk_at dksX2_feed_0 7 rfl rfl)
theorem dX2_feed_10 : decode cX2_feed 10 = .ok (.if_icmp .le 6, 3) := dk_164 0 6 (dk_at dksX2_feed_0 10 rfl rfl)
theorem dX2_feed_13 : decode cX2_feed 13 = .ok (.bipush (-3), 2) := dk_16 253 (dk_at dksX2_feed_0 13 rfl rfl)
theorem dX2_feed_15 : decode cX2_feed 15 = .ok (.ireturn, 1) := dk_172 (dk_at dksX2_feed_0 15 rfl rfl)
theorem dX2_feed_16 : decode cX2_feed 16 = .ok (.bipush 56, 2) := dk_16 56 (dk_at dksX2_feed_0 16 rfl rfl)
theorem dX2_feed_18 : decode cX2_feed 18 = .ok (.istore_n 3, 1) := dk_62 (dk_at dksX2_feed_0 18 rfl rfl)
theorem dX2_feed_19 : decode cX2_feed 19 = .ok (.iload_n 3, 1) := dk_29 (dk_at dksX2_feed_0 19 rfl rfl)
theorem dX2_feed_20 : decode cX2_feed 20 = .ok (.ifCond .lt 36, 3) := dk_155 0 36 (dk_at dksX2_feed_0 20 rfl rfl)
theorem dX2_feed_23 : decode cX2_feed 23 = .ok (.aload_n 0, 1) := dk_42 (dk_at dksX2_feed_0 23 rfl rfl)
theorem dX2_feed_24 : decode cX2_feed 24 = .ok (.getfield 105, 3) := dk_180 0 105 (dk_at dksX2_feed_1 0 rfl rfl)
theorem dX2_feed_27 : decode cX2_feed 27 = .ok (.aload_n 0, 1) := dk_42 (dk_at dksX2_feed_1 3 rfl rfl)
theorem dX2_feed_28 : decode cX2_feed 28 = .ok (.getfield 321, 3) := dk_180 1 65 (dk_at dksX2_feed_1 4 rfl rfl)
theorem dX2_feed_31 : decode cX2_feed 31 = .ok (.lload_n 1, 1) := dk_31 (dk_at dksX2_feed_1 7 rfl rfl)
theorem dX2_feed_32 : decode cX2_feed 32 = .ok (.iload_n 3, 1) := dk_29 (dk_at dksX2_feed_1 8 rfl rfl)
theorem dX2_feed_33 : decode cX2_feed 33 = .ok (.lshr, 1) := dk_123 (dk_at dksX2_feed_1 9 rfl rfl)
theorem dX2_feed_34 : decode cX2_feed 34 = .ok (.ldc2_w 324, 3) := dk_20 1 68 (dk_at dksX2_feed_1 10 rfl rfl)
theorem dX2_feed_37 : decode cX2_feed 37 = .ok (.land, 1) := dk_127 (dk_at dksX2_feed_1 13 rfl rfl)
theorem dX2_feed_38 : decode cX2_feed 38 = .ok (.l2i, 1) := dk_136 (dk_at dksX2_feed_1 14 rfl rfl)
theorem dX2_feed_39 : decode cX2_feed 39 = .ok (.iastore, 1) := dk_79 (dk_at dksX2_feed_1 15 rfl rfl)
theorem dX2_feed_40 : decode cX2_feed 40 = .ok (.aload_n 0, 1) := dk_42 (dk_at dksX2_feed_1 16 rfl rfl)
theorem dX2_feed_41 : decode cX2_feed 41 = .ok (.dup, 1) := dk_89 (dk_at dksX2_feed_1 17 rfl rfl)
theorem dX2_feed_42 : decode cX2_feed 42 = .ok (.getfield 321, 3) := dk_180 1 65 (dk_at dksX2_feed_1 18 rfl rfl)
theorem dX2_feed_45 : decode cX2_feed 45 = .ok (.iconst 1, 1) := dk_4 (dk_at dksX2_feed_1 21 rfl rfl)
theorem dX2_feed_46 : decode cX2_feed 46 = .ok (.iadd, 1) := dk_96 (dk_at dksX2_feed_1 22 rfl rfl)
theorem dX2_feed_47 : decode cX2_feed 47 = .ok (.putfield 321, 3) := dk_181 1 65 (dk_at dksX2_feed_2 0 rfl rfl)
theorem dX2_feed_50 : decode cX2_feed 50 = .ok (.iinc 3 (-8), 3) := dk_132 3 248 (dk_at dksX2_feed_2 3 rfl rfl)
theorem dX2_feed_53 : decode cX2_feed 53 = .ok (.goto (-34), 3) := dk_167 255 222 (dk_at dksX2_feed_2 6 rfl rfl)
theorem dX2_feed_56 : decode cX2_feed 56 = .ok (.aload_n 0, 1) := dk_42 (dk_at dksX2_feed_2 9 rfl rfl)
theorem dX2_feed_57 : decode cX2_feed 57 = .ok (.getfield 321, 3) := dk_180 1 65 (dk_at dksX2_feed_2 10 rfl rfl)
theorem dX2_feed_60 : decode cX2_feed 60 = .ok (.ireturn, 1) := dk_172 (dk_at dksX2_feed_2 13 rfl rfl)
abbrev cX2_end : ByteArray := prog_11_method_65_code
def yX2_end : MethodName := ⟨RX2, "end", "(I)I"⟩
def dkwX2_end_1 : List UInt8 := [181, 1, 65, 28, 172]
abbrev dktX2_end_1 : List UInt8 := dkwX2_end_1 ++ []
def dkwX2_end_0 : List UInt8 := [27, 133, 9, 42, 180, 1, 65, 133, 184, 0, 138, 154, 0, 5, 2, 172, 42, 180, 1, 65, 61, 42, 27]
abbrev dktX2_end_0 : List UInt8 := dkwX2_end_0 ++ dktX2_end_1
theorem dksX2_end_0 : cX2_end.data.toList.drop 0 = dktX2_end_0 := by decide +kernel
theorem dksX2_end_1 : cX2_end.data.toList.drop 23 = dktX2_end_1 := dk_seg dksX2_end_0 23 rfl rfl
theorem dX2_end_0 : decode cX2_end 0 = .ok (.iload_n 1, 1) := dk_27 (dk_at dksX2_end_0 0 rfl rfl)
theorem dX2_end_1 : decode cX2_end 1 = .ok (.i2l, 1) := dk_133 (dk_at dksX2_end_0 1 rfl rfl)
theorem dX2_end_2 : decode cX2_end 2 = .ok (.lconst 0, 1) := dk_9 (dk_at dksX2_end_0 2 rfl rfl)
theorem dX2_end_3 : decode cX2_end 3 = .ok (.aload_n 0, 1) := dk_42 (dk_at dksX2_end_0 3 rfl rfl)
theorem dX2_end_4 : decode cX2_end 4 = .ok (.getfield 321, 3) := dk_180 1 65 (dk_at dksX2_end_0 4 rfl rfl)
theorem dX2_end_7 : decode cX2_end 7 = .ok (.i2l, 1) := dk_133 (dk_at dksX2_end_0 7 rfl rfl)
theorem dX2_end_8 : decode cX2_end 8 = .ok (.invokestatic 138, 3) := dk_184 0 138 (dk_at dksX2_end_0 8 rfl rfl)
theorem dX2_end_11 : decode cX2_end 11 = .ok (.ifCond .ne 5, 3) := dk_154 0 5 (dk_at dksX2_end_0 11 rfl rfl)
theorem dX2_end_14 : decode cX2_end 14 = .ok (.iconst (-1), 1) := dk_2 (dk_at dksX2_end_0 14 rfl rfl)
theorem dX2_end_15 : decode cX2_end 15 = .ok (.ireturn, 1) := dk_172 (dk_at dksX2_end_0 15 rfl rfl)
theorem dX2_end_16 : decode cX2_end 16 = .ok (.aload_n 0, 1) := dk_42 (dk_at dksX2_end_0 16 rfl rfl)
theorem dX2_end_17 : decode cX2_end 17 = .ok (.getfield 321, 3) := dk_180 1 65 (dk_at dksX2_end_0 17 rfl rfl)
theorem dX2_end_20 : decode cX2_end 20 = .ok (.istore_n 2, 1) := dk_61 (dk_at dksX2_end_0 20 rfl rfl)
theorem dX2_end_21 : decode cX2_end 21 = .ok (.aload_n 0, 1) := dk_42 (dk_at dksX2_end_0 21 rfl rfl)
theorem dX2_end_22 : decode cX2_end 22 = .ok (.iload_n 1, 1) := dk_27 (dk_at dksX2_end_0 22 rfl rfl)
theorem dX2_end_23 : decode cX2_end 23 = .ok (.putfield 321, 3) := dk_181 1 65 (dk_at dksX2_end_1 0 rfl rfl)
theorem dX2_end_26 : decode cX2_end 26 = .ok (.iload_n 2, 1) := dk_28 (dk_at dksX2_end_1 3 rfl rfl)
theorem dX2_end_27 : decode cX2_end 27 = .ok (.ireturn, 1) := dk_172 (dk_at dksX2_end_1 4 rfl rfl)
abbrev cX2_claims : ByteArray := prog_11_method_73_code
def yX2_claims : MethodName := ⟨RX2, "claims", "()I"⟩
def dkwX2_claims_3 : List UInt8 := [181, 1, 118, 28, 172]
abbrev dktX2_claims_3 : List UInt8 := dkwX2_claims_3 ++ []
def dkwX2_claims_2 : List UInt8 := [42, 180, 1, 70, 158, 0, 11, 16, 246, 42, 180, 1, 76, 100, 172, 27, 42, 180, 1, 118, 100, 61, 42, 27]
abbrev dktX2_claims_2 : List UInt8 := dkwX2_claims_2 ++ dktX2_claims_3
def dkwX2_claims_1 : List UInt8 := [154, 0, 19, 42, 180, 1, 88, 153, 0, 12, 42, 27, 182, 1, 121, 60, 167, 255, 236, 42, 3, 181, 1, 65]
abbrev dktX2_claims_1 : List UInt8 := dkwX2_claims_1 ++ dktX2_claims_2
def dkwX2_claims_0 : List UInt8 := [42, 180, 1, 118, 60, 42, 3, 181, 1, 70, 42, 3, 181, 1, 79, 42, 182, 1, 109, 42, 180, 1, 70]
abbrev dktX2_claims_0 : List UInt8 := dkwX2_claims_0 ++ dktX2_claims_1
theorem dksX2_claims_0 : cX2_claims.data.toList.drop 0 = dktX2_claims_0 := by decide +kernel
theorem dksX2_claims_1 : cX2_claims.data.toList.drop 23 = dktX2_claims_1 := dk_seg dksX2_claims_0 23 rfl rfl
theorem dksX2_claims_2 : cX2_claims.data.toList.drop 47 = dktX2_claims_2 := dk_seg dksX2_claims_1 24 rfl rfl
theorem dksX2_claims_3 : cX2_claims.data.toList.drop 71 = dktX2_claims_3 := dk_seg dksX2_claims_2 24 rfl rfl
theorem dX2_claims_0 : decode cX2_claims 0 = .ok (.aload_n 0, 1) := dk_42 (dk_at dksX2_claims_0 0 rfl rfl)
theorem dX2_claims_1 : decode cX2_claims 1 = .ok (.getfield 374, 3) := dk_180 1 118 (dk_at dksX2_claims_0 1 rfl rfl)
theorem dX2_claims_4 : decode cX2_claims 4 = .ok (.istore_n 1, 1) := dk_60 (dk_at dksX2_claims_0 4 rfl rfl)
theorem dX2_claims_5 : decode cX2_claims 5 = .ok (.aload_n 0, 1) := dk_42 (dk_at dksX2_claims_0 5 rfl rfl)
theorem dX2_claims_6 : decode cX2_claims 6 = .ok (.iconst 0, 1) := dk_3 (dk_at dksX2_claims_0 6 rfl rfl)
theorem dX2_claims_7 : decode cX2_claims 7 = .ok (.putfield 326, 3) := dk_181 1 70 (dk_at dksX2_claims_0 7 rfl rfl)
theorem dX2_claims_10 : decode cX2_claims 10 = .ok (.aload_n 0, 1) := dk_42 (dk_at dksX2_claims_0 10 rfl rfl)
theorem dX2_claims_11 : decode cX2_claims 11 = .ok (.iconst 0, 1) := dk_3 (dk_at dksX2_claims_0 11 rfl rfl)
theorem dX2_claims_12 : decode cX2_claims 12 = .ok (.putfield 335, 3) := dk_181 1 79 (dk_at dksX2_claims_0 12 rfl rfl)
theorem dX2_claims_15 : decode cX2_claims 15 = .ok (.aload_n 0, 1) := dk_42 (dk_at dksX2_claims_0 15 rfl rfl)
theorem dX2_claims_16 : decode cX2_claims 16 = .ok (.invokevirtual 365, 3) := dk_182 1 109 (dk_at dksX2_claims_0 16 rfl rfl)
theorem dX2_claims_19 : decode cX2_claims 19 = .ok (.aload_n 0, 1) := dk_42 (dk_at dksX2_claims_0 19 rfl rfl)
theorem dX2_claims_20 : decode cX2_claims 20 = .ok (.getfield 326, 3) := dk_180 1 70 (dk_at dksX2_claims_0 20 rfl rfl)
theorem dX2_claims_23 : decode cX2_claims 23 = .ok (.ifCond .ne 19, 3) := dk_154 0 19 (dk_at dksX2_claims_1 0 rfl rfl)
theorem dX2_claims_26 : decode cX2_claims 26 = .ok (.aload_n 0, 1) := dk_42 (dk_at dksX2_claims_1 3 rfl rfl)
theorem dX2_claims_27 : decode cX2_claims 27 = .ok (.getfield 344, 3) := dk_180 1 88 (dk_at dksX2_claims_1 4 rfl rfl)
theorem dX2_claims_30 : decode cX2_claims 30 = .ok (.ifCond .eq 12, 3) := dk_153 0 12 (dk_at dksX2_claims_1 7 rfl rfl)
theorem dX2_claims_33 : decode cX2_claims 33 = .ok (.aload_n 0, 1) := dk_42 (dk_at dksX2_claims_1 10 rfl rfl)
theorem dX2_claims_34 : decode cX2_claims 34 = .ok (.iload_n 1, 1) := dk_27 (dk_at dksX2_claims_1 11 rfl rfl)
theorem dX2_claims_35 : decode cX2_claims 35 = .ok (.invokevirtual 377, 3) := dk_182 1 121 (dk_at dksX2_claims_1 12 rfl rfl)
theorem dX2_claims_38 : decode cX2_claims 38 = .ok (.istore_n 1, 1) := dk_60 (dk_at dksX2_claims_1 15 rfl rfl)
theorem dX2_claims_39 : decode cX2_claims 39 = .ok (.goto (-20), 3) := dk_167 255 236 (dk_at dksX2_claims_1 16 rfl rfl)
theorem dX2_claims_42 : decode cX2_claims 42 = .ok (.aload_n 0, 1) := dk_42 (dk_at dksX2_claims_1 19 rfl rfl)
theorem dX2_claims_43 : decode cX2_claims 43 = .ok (.iconst 0, 1) := dk_3 (dk_at dksX2_claims_1 20 rfl rfl)
theorem dX2_claims_44 : decode cX2_claims 44 = .ok (.putfield 321, 3) := dk_181 1 65 (dk_at dksX2_claims_1 21 rfl rfl)
theorem dX2_claims_47 : decode cX2_claims 47 = .ok (.aload_n 0, 1) := dk_42 (dk_at dksX2_claims_2 0 rfl rfl)
theorem dX2_claims_48 : decode cX2_claims 48 = .ok (.getfield 326, 3) := dk_180 1 70 (dk_at dksX2_claims_2 1 rfl rfl)
theorem dX2_claims_51 : decode cX2_claims 51 = .ok (.ifCond .le 11, 3) := dk_158 0 11 (dk_at dksX2_claims_2 4 rfl rfl)
theorem dX2_claims_54 : decode cX2_claims 54 = .ok (.bipush (-10), 2) := dk_16 246 (dk_at dksX2_claims_2 7 rfl rfl)
theorem dX2_claims_56 : decode cX2_claims 56 = .ok (.aload_n 0, 1) := dk_42 (dk_at dksX2_claims_2 9 rfl rfl)
theorem dX2_claims_57 : decode cX2_claims 57 = .ok (.getfield 332, 3) := dk_180 1 76 (dk_at dksX2_claims_2 10 rfl rfl)
theorem dX2_claims_60 : decode cX2_claims 60 = .ok (.isub, 1) := dk_100 (dk_at dksX2_claims_2 13 rfl rfl)
theorem dX2_claims_61 : decode cX2_claims 61 = .ok (.ireturn, 1) := dk_172 (dk_at dksX2_claims_2 14 rfl rfl)
theorem dX2_claims_62 : decode cX2_claims 62 = .ok (.iload_n 1, 1) := dk_27 (dk_at dksX2_claims_2 15 rfl rfl)
theorem dX2_claims_63 : decode cX2_claims 63 = .ok (.aload_n 0, 1) := dk_42 (dk_at dksX2_claims_2 16 rfl rfl)
theorem dX2_claims_64 : decode cX2_claims 64 = .ok (.getfield 374, 3) := dk_180 1 118 (dk_at dksX2_claims_2 17 rfl rfl)
theorem dX2_claims_67 : decode cX2_claims 67 = .ok (.isub, 1) := dk_100 (dk_at dksX2_claims_2 20 rfl rfl)
theorem dX2_claims_68 : decode cX2_claims 68 = .ok (.istore_n 2, 1) := dk_61 (dk_at dksX2_claims_2 21 rfl rfl)
theorem dX2_claims_69 : decode cX2_claims 69 = .ok (.aload_n 0, 1) := dk_42 (dk_at dksX2_claims_2 22 rfl rfl)
theorem dX2_claims_70 : decode cX2_claims 70 = .ok (.iload_n 1, 1) := dk_27 (dk_at dksX2_claims_2 23 rfl rfl)
theorem dX2_claims_71 : decode cX2_claims 71 = .ok (.putfield 374, 3) := dk_181 1 118 (dk_at dksX2_claims_3 0 rfl rfl)
theorem dX2_claims_74 : decode cX2_claims 74 = .ok (.iload_n 2, 1) := dk_28 (dk_at dksX2_claims_3 3 rfl rfl)
theorem dX2_claims_75 : decode cX2_claims 75 = .ok (.ireturn, 1) := dk_172 (dk_at dksX2_claims_3 4 rfl rfl)
abbrev cX2_next : ByteArray := prog_11_method_70_code
def yX2_next : MethodName := ⟨RX2, "next", "()V"⟩
def dkwX2_next_13 : List UInt8 := [4, 167, 0, 4, 3, 4, 182, 1, 101, 42, 89, 180, 1, 79, 4, 96, 181, 1, 79, 177]
abbrev dktX2_next_13 : List UInt8 := dkwX2_next_13 ++ []
def dkwX2_next_12 : List UInt8 := [160, 0, 7, 6, 167, 0, 4, 7, 181, 1, 88, 42, 27, 16, 59, 159, 0, 9, 27, 16, 44, 160, 0, 7]
abbrev dktX2_next_12 : List UInt8 := dkwX2_next_12 ++ dktX2_next_13
def dkwX2_next_11 : List UInt8 := [180, 1, 73, 100, 5, 163, 0, 7, 4, 167, 0, 4, 3, 4, 182, 1, 101, 167, 0, 50, 42, 27, 16, 59]
abbrev dktX2_next_11 : List UInt8 := dkwX2_next_11 ++ dktX2_next_12
def dkwX2_next_10 : List UInt8 := [181, 1, 98, 42, 89, 180, 1, 79, 4, 96, 181, 1, 79, 167, 255, 182, 42, 42, 180, 1, 79, 42]
abbrev dktX2_next_10 : List UInt8 := dkwX2_next_10 ++ dktX2_next_11
def dkwX2_next_9 : List UInt8 := [180, 1, 98, 104, 42, 42, 180, 1, 79, 182, 1, 82, 96, 16, 48, 100, 167, 0, 7, 42, 180, 1, 98]
abbrev dktX2_next_9 : List UInt8 := dkwX2_next_9 ++ dktX2_next_10
def dkwX2_next_8 : List UInt8 := [184, 0, 138, 153, 0, 59, 42, 42, 180, 1, 79, 42, 180, 1, 73, 100, 5, 162, 0, 25, 16, 10, 42]
abbrev dktX2_next_8 : List UInt8 := dkwX2_next_8 ++ dktX2_next_9
def dkwX2_next_7 : List UInt8 := [181, 1, 88, 42, 3, 181, 1, 98, 42, 42, 180, 1, 79, 182, 1, 82, 133, 20, 1, 105, 20, 1, 107]
abbrev dktX2_next_7 : List UInt8 := dkwX2_next_7 ++ dktX2_next_8
def dkwX2_next_6 : List UInt8 := [182, 1, 101, 167, 0, 177, 27, 133, 20, 1, 105, 20, 1, 107, 184, 0, 138, 153, 0, 116, 42, 5]
abbrev dktX2_next_6 : List UInt8 := dkwX2_next_6 ++ dktX2_next_7
def dkwX2_next_5 : List UInt8 := [182, 1, 95, 181, 1, 98, 42, 42, 180, 1, 98, 16, 252, 159, 0, 7, 4, 167, 0, 4, 3, 4]
abbrev dktX2_next_5 : List UInt8 := dkwX2_next_5 ++ dktX2_next_6
def dkwX2_next_4 : List UInt8 := [20, 1, 93, 184, 0, 138, 153, 0, 16, 42, 89, 180, 1, 79, 4, 96, 181, 1, 79, 167, 255, 225, 42, 42]
abbrev dktX2_next_4 : List UInt8 := dkwX2_next_4 ++ dktX2_next_5
def dkwX2_next_3 : List UInt8 := [184, 0, 138, 153, 0, 72, 42, 4, 181, 1, 88, 42, 42, 180, 1, 79, 182, 1, 82, 133, 20, 1, 91]
abbrev dktX2_next_3 : List UInt8 := dkwX2_next_3 ++ dktX2_next_4
def dkwX2_next_2 : List UInt8 := [182, 1, 82, 60, 27, 156, 0, 11, 42, 3, 181, 1, 88, 167, 1, 4, 27, 133, 20, 1, 91, 20, 1, 93]
abbrev dktX2_next_2 : List UInt8 := dkwX2_next_2 ++ dktX2_next_3
def dkwX2_next_1 : List UInt8 := [180, 1, 79, 4, 96, 181, 1, 79, 167, 255, 233, 42, 42, 180, 1, 79, 181, 1, 73, 42, 42, 180, 1, 79]
abbrev dktX2_next_1 : List UInt8 := dkwX2_next_1 ++ dktX2_next_2
def dkwX2_next_0 : List UInt8 := [42, 180, 1, 70, 158, 0, 4, 177, 42, 42, 180, 1, 79, 182, 1, 82, 16, 32, 160, 0, 16, 42, 89]
abbrev dktX2_next_0 : List UInt8 := dkwX2_next_0 ++ dktX2_next_1
theorem dksX2_next_0 : cX2_next.data.toList.drop 0 = dktX2_next_0 := by decide +kernel
theorem dksX2_next_1 : cX2_next.data.toList.drop 23 = dktX2_next_1 := dk_seg dksX2_next_0 23 rfl rfl
theorem dksX2_next_2 : cX2_next.data.toList.drop 47 = dktX2_next_2 := dk_seg dksX2_next_1 24 rfl rfl
theorem dksX2_next_3 : cX2_next.data.toList.drop 71 = dktX2_next_3 := dk_seg dksX2_next_2 24 rfl rfl
theorem dksX2_next_4 : cX2_next.data.toList.drop 94 = dktX2_next_4 := dk_seg dksX2_next_3 23 rfl rfl
theorem dksX2_next_5 : cX2_next.data.toList.drop 118 = dktX2_next_5 := dk_seg dksX2_next_4 24 rfl rfl
theorem dksX2_next_6 : cX2_next.data.toList.drop 140 = dktX2_next_6 := dk_seg dksX2_next_5 22 rfl rfl
theorem dksX2_next_7 : cX2_next.data.toList.drop 162 = dktX2_next_7 := dk_seg dksX2_next_6 22 rfl rfl
theorem dksX2_next_8 : cX2_next.data.toList.drop 185 = dktX2_next_8 := dk_seg dksX2_next_7 23 rfl rfl
theorem dksX2_next_9 : cX2_next.data.toList.drop 208 = dktX2_next_9 := dk_seg dksX2_next_8 23 rfl rfl
theorem dksX2_next_10 : cX2_next.data.toList.drop 231 = dktX2_next_10 := dk_seg dksX2_next_9 23 rfl rfl
theorem dksX2_next_11 : cX2_next.data.toList.drop 253 = dktX2_next_11 := dk_seg dksX2_next_10 22 rfl rfl
theorem dksX2_next_12 : cX2_next.data.toList.drop 277 = dktX2_next_12 := dk_seg dksX2_next_11 24 rfl rfl
theorem dksX2_next_13 : cX2_next.data.toList.drop 301 = dktX2_next_13 := dk_seg dksX2_next_12 24 rfl rfl
theorem dX2_next_0 : decode cX2_next 0 = .ok (.aload_n 0, 1) := dk_42 (dk_at dksX2_next_0 0 rfl rfl)
theorem dX2_next_1 : decode cX2_next 1 = .ok (.getfield 326, 3) := dk_180 1 70 (dk_at dksX2_next_0 1 rfl rfl)
theorem dX2_next_4 : decode cX2_next 4 = .ok (.ifCond .le 4, 3) := dk_158 0 4 (dk_at dksX2_next_0 4 rfl rfl)
theorem dX2_next_7 : decode cX2_next 7 = .ok (.return_, 1) := dk_177 (dk_at dksX2_next_0 7 rfl rfl)
theorem dX2_next_8 : decode cX2_next 8 = .ok (.aload_n 0, 1) := dk_42 (dk_at dksX2_next_0 8 rfl rfl)
theorem dX2_next_9 : decode cX2_next 9 = .ok (.aload_n 0, 1) := dk_42 (dk_at dksX2_next_0 9 rfl rfl)
theorem dX2_next_10 : decode cX2_next 10 = .ok (.getfield 335, 3) := dk_180 1 79 (dk_at dksX2_next_0 10 rfl rfl)
theorem dX2_next_13 : decode cX2_next 13 = .ok (.invokevirtual 338, 3) := dk_182 1 82 (dk_at dksX2_next_0 13 rfl rfl)
theorem dX2_next_16 : decode cX2_next 16 = .ok (.bipush 32, 2) := dk_16 32 (dk_at dksX2_next_0 16 rfl rfl)
theorem dX2_next_18 : decode cX2_next 18 = .ok (.if_icmp .ne 16, 3) := dk_160 0 16 (dk_at dksX2_next_0 18 rfl rfl)
theorem dX2_next_21 : decode cX2_next 21 = .ok (.aload_n 0, 1) := dk_42 (dk_at dksX2_next_0 21 rfl rfl)
theorem dX2_next_22 : decode cX2_next 22 = .ok (.dup, 1) := dk_89 (dk_at dksX2_next_0 22 rfl rfl)
theorem dX2_next_23 : decode cX2_next 23 = .ok (.getfield 335, 3) := dk_180 1 79 (dk_at dksX2_next_1 0 rfl rfl)
theorem dX2_next_26 : decode cX2_next 26 = .ok (.iconst 1, 1) := dk_4 (dk_at dksX2_next_1 3 rfl rfl)
theorem dX2_next_27 : decode cX2_next 27 = .ok (.iadd, 1) := dk_96 (dk_at dksX2_next_1 4 rfl rfl)
theorem dX2_next_28 : decode cX2_next 28 = .ok (.putfield 335, 3) := dk_181 1 79 (dk_at dksX2_next_1 5 rfl rfl)
theorem dX2_next_31 : decode cX2_next 31 = .ok (.goto (-23), 3) := dk_167 255 233 (dk_at dksX2_next_1 8 rfl rfl)
theorem dX2_next_34 : decode cX2_next 34 = .ok (.aload_n 0, 1) := dk_42 (dk_at dksX2_next_1 11 rfl rfl)
theorem dX2_next_35 : decode cX2_next 35 = .ok (.aload_n 0, 1) := dk_42 (dk_at dksX2_next_1 12 rfl rfl)
theorem dX2_next_36 : decode cX2_next 36 = .ok (.getfield 335, 3) := dk_180 1 79 (dk_at dksX2_next_1 13 rfl rfl)
theorem dX2_next_39 : decode cX2_next 39 = .ok (.putfield 329, 3) := dk_181 1 73 (dk_at dksX2_next_1 16 rfl rfl)
theorem dX2_next_42 : decode cX2_next 42 = .ok (.aload_n 0, 1) := dk_42 (dk_at dksX2_next_1 19 rfl rfl)
theorem dX2_next_43 : decode cX2_next 43 = .ok (.aload_n 0, 1) := dk_42 (dk_at dksX2_next_1 20 rfl rfl)
theorem dX2_next_44 : decode cX2_next 44 = .ok (.getfield 335, 3) := dk_180 1 79 (dk_at dksX2_next_1 21 rfl rfl)
theorem dX2_next_47 : decode cX2_next 47 = .ok (.invokevirtual 338, 3) := dk_182 1 82 (dk_at dksX2_next_2 0 rfl rfl)
theorem dX2_next_50 : decode cX2_next 50 = .ok (.istore_n 1, 1) := dk_60 (dk_at dksX2_next_2 3 rfl rfl)
theorem dX2_next_51 : decode cX2_next 51 = .ok (.iload_n 1, 1) := dk_27 (dk_at dksX2_next_2 4 rfl rfl)
theorem dX2_next_52 : decode cX2_next 52 = .ok (.ifCond .ge 11, 3) := dk_156 0 11 (dk_at dksX2_next_2 5 rfl rfl)
theorem dX2_next_55 : decode cX2_next 55 = .ok (.aload_n 0, 1) := dk_42 (dk_at dksX2_next_2 8 rfl rfl)
theorem dX2_next_56 : decode cX2_next 56 = .ok (.iconst 0, 1) := dk_3 (dk_at dksX2_next_2 9 rfl rfl)
theorem dX2_next_57 : decode cX2_next 57 = .ok (.putfield 344, 3) := dk_181 1 88 (dk_at dksX2_next_2 10 rfl rfl)
theorem dX2_next_60 : decode cX2_next 60 = .ok (.goto 260, 3) := dk_167 1 4 (dk_at dksX2_next_2 13 rfl rfl)
theorem dX2_next_63 : decode cX2_next 63 = .ok (.iload_n 1, 1) := dk_27 (dk_at dksX2_next_2 16 rfl rfl)
theorem dX2_next_64 : decode cX2_next 64 = .ok (.i2l, 1) := dk_133 (dk_at dksX2_next_2 17 rfl rfl)
theorem dX2_next_65 : decode cX2_next 65 = .ok (.ldc2_w 347, 3) := dk_20 1 91 (dk_at dksX2_next_2 18 rfl rfl)
theorem dX2_next_68 : decode cX2_next 68 = .ok (.ldc2_w 349, 3) := dk_20 1 93 (dk_at dksX2_next_2 21 rfl rfl)
theorem dX2_next_71 : decode cX2_next 71 = .ok (.invokestatic 138, 3) := dk_184 0 138 (dk_at dksX2_next_3 0 rfl rfl)
theorem dX2_next_74 : decode cX2_next 74 = .ok (.ifCond .eq 72, 3) := dk_153 0 72 (dk_at dksX2_next_3 3 rfl rfl)
theorem dX2_next_77 : decode cX2_next 77 = .ok (.aload_n 0, 1) := dk_42 (dk_at dksX2_next_3 6 rfl rfl)
theorem dX2_next_78 : decode cX2_next 78 = .ok (.iconst 1, 1) := dk_4 (dk_at dksX2_next_3 7 rfl rfl)
theorem dX2_next_79 : decode cX2_next 79 = .ok (.putfield 344, 3) := dk_181 1 88 (dk_at dksX2_next_3 8 rfl rfl)
theorem dX2_next_82 : decode cX2_next 82 = .ok (.aload_n 0, 1) := dk_42 (dk_at dksX2_next_3 11 rfl rfl)
theorem dX2_next_83 : decode cX2_next 83 = .ok (.aload_n 0, 1) := dk_42 (dk_at dksX2_next_3 12 rfl rfl)
theorem dX2_next_84 : decode cX2_next 84 = .ok (.getfield 335, 3) := dk_180 1 79 (dk_at dksX2_next_3 13 rfl rfl)
theorem dX2_next_87 : decode cX2_next 87 = .ok (.invokevirtual 338, 3) := dk_182 1 82 (dk_at dksX2_next_3 16 rfl rfl)
theorem dX2_next_90 : decode cX2_next 90 = .ok (.i2l, 1) := dk_133 (dk_at dksX2_next_3 19 rfl rfl)
theorem dX2_next_91 : decode cX2_next 91 = .ok (.ldc2_w 347, 3) := dk_20 1 91 (dk_at dksX2_next_3 20 rfl rfl)
theorem dX2_next_94 : decode cX2_next 94 = .ok (.ldc2_w 349, 3) := dk_20 1 93 (dk_at dksX2_next_4 0 rfl rfl)
theorem dX2_next_97 : decode cX2_next 97 = .ok (.invokestatic 138, 3) := dk_184 0 138 (dk_at dksX2_next_4 3 rfl rfl)
theorem dX2_next_100 : decode cX2_next 100 = .ok (.ifCond .eq 16, 3) := dk_153 0 16 (dk_at dksX2_next_4 6 rfl rfl)
theorem dX2_next_103 : decode cX2_next 103 = .ok (.aload_n 0, 1) := dk_42 (dk_at dksX2_next_4 9 rfl rfl)
theorem dX2_next_104 : decode cX2_next 104 = .ok (.dup, 1) := dk_89 (dk_at dksX2_next_4 10 rfl rfl)
theorem dX2_next_105 : decode cX2_next 105 = .ok (.getfield 335, 3) := dk_180 1 79 (dk_at dksX2_next_4 11 rfl rfl)
theorem dX2_next_108 : decode cX2_next 108 = .ok (.iconst 1, 1) := dk_4 (dk_at dksX2_next_4 14 rfl rfl)
theorem dX2_next_109 : decode cX2_next 109 = .ok (.iadd, 1) := dk_96 (dk_at dksX2_next_4 15 rfl rfl)
theorem dX2_next_110 : decode cX2_next 110 = .ok (.putfield 335, 3) := dk_181 1 79 (dk_at dksX2_next_4 16 rfl rfl)
theorem dX2_next_113 : decode cX2_next 113 = .ok (.goto (-31), 3) := dk_167 255 225 (dk_at dksX2_next_4 19 rfl rfl)
theorem dX2_next_116 : decode cX2_next 116 = .ok (.aload_n 0, 1) := dk_42 (dk_at dksX2_next_4 22 rfl rfl)
theorem dX2_next_117 : decode cX2_next 117 = .ok (.aload_n 0, 1) := dk_42 (dk_at dksX2_next_4 23 rfl rfl)
theorem dX2_next_118 : decode cX2_next 118 = .ok (.invokevirtual 351, 3) := dk_182 1 95 (dk_at dksX2_next_5 0 rfl rfl)
theorem dX2_next_121 : decode cX2_next 121 = .ok (.putfield 354, 3) := dk_181 1 98 (dk_at dksX2_next_5 3 rfl rfl)
theorem dX2_next_124 : decode cX2_next 124 = .ok (.aload_n 0, 1) := dk_42 (dk_at dksX2_next_5 6 rfl rfl)
theorem dX2_next_125 : decode cX2_next 125 = .ok (.aload_n 0, 1) := dk_42 (dk_at dksX2_next_5 7 rfl rfl)
theorem dX2_next_126 : decode cX2_next 126 = .ok (.getfield 354, 3) := dk_180 1 98 (dk_at dksX2_next_5 8 rfl rfl)
theorem dX2_next_129 : decode cX2_next 129 = .ok (.bipush (-4), 2) := dk_16 252 (dk_at dksX2_next_5 11 rfl rfl)
theorem dX2_next_131 : decode cX2_next 131 = .ok (.if_icmp .eq 7, 3) := dk_159 0 7 (dk_at dksX2_next_5 13 rfl rfl)
theorem dX2_next_134 : decode cX2_next 134 = .ok (.iconst 1, 1) := dk_4 (dk_at dksX2_next_5 16 rfl rfl)
theorem dX2_next_135 : decode cX2_next 135 = .ok (.goto 4, 3) := dk_167 0 4 (dk_at dksX2_next_5 17 rfl rfl)
theorem dX2_next_138 : decode cX2_next 138 = .ok (.iconst 0, 1) := dk_3 (dk_at dksX2_next_5 20 rfl rfl)
theorem dX2_next_139 : decode cX2_next 139 = .ok (.iconst 1, 1) := dk_4 (dk_at dksX2_next_5 21 rfl rfl)
theorem dX2_next_140 : decode cX2_next 140 = .ok (.invokevirtual 357, 3) := dk_182 1 101 (dk_at dksX2_next_6 0 rfl rfl)
theorem dX2_next_143 : decode cX2_next 143 = .ok (.goto 177, 3) := dk_167 0 177 (dk_at dksX2_next_6 3 rfl rfl)
theorem dX2_next_146 : decode cX2_next 146 = .ok (.iload_n 1, 1) := dk_27 (dk_at dksX2_next_6 6 rfl rfl)
theorem dX2_next_147 : decode cX2_next 147 = .ok (.i2l, 1) := dk_133 (dk_at dksX2_next_6 7 rfl rfl)
theorem dX2_next_148 : decode cX2_next 148 = .ok (.ldc2_w 361, 3) := dk_20 1 105 (dk_at dksX2_next_6 8 rfl rfl)
theorem dX2_next_151 : decode cX2_next 151 = .ok (.ldc2_w 363, 3) := dk_20 1 107 (dk_at dksX2_next_6 11 rfl rfl)
theorem dX2_next_154 : decode cX2_next 154 = .ok (.invokestatic 138, 3) := dk_184 0 138 (dk_at dksX2_next_6 14 rfl rfl)
theorem dX2_next_157 : decode cX2_next 157 = .ok (.ifCond .eq 116, 3) := dk_153 0 116 (dk_at dksX2_next_6 17 rfl rfl)
theorem dX2_next_160 : decode cX2_next 160 = .ok (.aload_n 0, 1) := dk_42 (dk_at dksX2_next_6 20 rfl rfl)
theorem dX2_next_161 : decode cX2_next 161 = .ok (.iconst 2, 1) := dk_5 (dk_at dksX2_next_6 21 rfl rfl)
theorem dX2_next_162 : decode cX2_next 162 = .ok (.putfield 344, 3) := dk_181 1 88 (dk_at dksX2_next_7 0 rfl rfl)
theorem dX2_next_165 : decode cX2_next 165 = .ok (.aload_n 0, 1) := dk_42 (dk_at dksX2_next_7 3 rfl rfl)
theorem dX2_next_166 : decode cX2_next 166 = .ok (.iconst 0, 1) := dk_3 (dk_at dksX2_next_7 4 rfl rfl)
theorem dX2_next_167 : decode cX2_next 167 = .ok (.putfield 354, 3) := dk_181 1 98 (dk_at dksX2_next_7 5 rfl rfl)
theorem dX2_next_170 : decode cX2_next 170 = .ok (.aload_n 0, 1) := dk_42 (dk_at dksX2_next_7 8 rfl rfl)
theorem dX2_next_171 : decode cX2_next 171 = .ok (.aload_n 0, 1) := dk_42 (dk_at dksX2_next_7 9 rfl rfl)
theorem dX2_next_172 : decode cX2_next 172 = .ok (.getfield 335, 3) := dk_180 1 79 (dk_at dksX2_next_7 10 rfl rfl)
theorem dX2_next_175 : decode cX2_next 175 = .ok (.invokevirtual 338, 3) := dk_182 1 82 (dk_at dksX2_next_7 13 rfl rfl)
theorem dX2_next_178 : decode cX2_next 178 = .ok (.i2l, 1) := dk_133 (dk_at dksX2_next_7 16 rfl rfl)
theorem dX2_next_179 : decode cX2_next 179 = .ok (.ldc2_w 361, 3) := dk_20 1 105 (dk_at dksX2_next_7 17 rfl rfl)
theorem dX2_next_182 : decode cX2_next 182 = .ok (.ldc2_w 363, 3) := dk_20 1 107 (dk_at dksX2_next_7 20 rfl rfl)
theorem dX2_next_185 : decode cX2_next 185 = .ok (.invokestatic 138, 3) := dk_184 0 138 (dk_at dksX2_next_8 0 rfl rfl)
theorem dX2_next_188 : decode cX2_next 188 = .ok (.ifCond .eq 59, 3) := dk_153 0 59 (dk_at dksX2_next_8 3 rfl rfl)
theorem dX2_next_191 : decode cX2_next 191 = .ok (.aload_n 0, 1) := dk_42 (dk_at dksX2_next_8 6 rfl rfl)
theorem dX2_next_192 : decode cX2_next 192 = .ok (.aload_n 0, 1) := dk_42 (dk_at dksX2_next_8 7 rfl rfl)
theorem dX2_next_193 : decode cX2_next 193 = .ok (.getfield 335, 3) := dk_180 1 79 (dk_at dksX2_next_8 8 rfl rfl)
theorem dX2_next_196 : decode cX2_next 196 = .ok (.aload_n 0, 1) := dk_42 (dk_at dksX2_next_8 11 rfl rfl)
theorem dX2_next_197 : decode cX2_next 197 = .ok (.getfield 329, 3) := dk_180 1 73 (dk_at dksX2_next_8 12 rfl rfl)
theorem dX2_next_200 : decode cX2_next 200 = .ok (.isub, 1) := dk_100 (dk_at dksX2_next_8 15 rfl rfl)
theorem dX2_next_201 : decode cX2_next 201 = .ok (.iconst 2, 1) := dk_5 (dk_at dksX2_next_8 16 rfl rfl)
theorem dX2_next_202 : decode cX2_next 202 = .ok (.if_icmp .ge 25, 3) := dk_162 0 25 (dk_at dksX2_next_8 17 rfl rfl)
theorem dX2_next_205 : decode cX2_next 205 = .ok (.bipush 10, 2) := dk_16 10 (dk_at dksX2_next_8 20 rfl rfl)
theorem dX2_next_207 : decode cX2_next 207 = .ok (.aload_n 0, 1) := dk_42 (dk_at dksX2_next_8 22 rfl rfl)
theorem dX2_next_208 : decode cX2_next 208 = .ok (.getfield 354, 3) := dk_180 1 98 (dk_at dksX2_next_9 0 rfl rfl)
theorem dX2_next_211 : decode cX2_next 211 = .ok (.imul, 1) := dk_104 (dk_at dksX2_next_9 3 rfl rfl)
theorem dX2_next_212 : decode cX2_next 212 = .ok (.aload_n 0, 1) := dk_42 (dk_at dksX2_next_9 4 rfl rfl)
theorem dX2_next_213 : decode cX2_next 213 = .ok (.aload_n 0, 1) := dk_42 (dk_at dksX2_next_9 5 rfl rfl)
theorem dX2_next_214 : decode cX2_next 214 = .ok (.getfield 335, 3) := dk_180 1 79 (dk_at dksX2_next_9 6 rfl rfl)
theorem dX2_next_217 : decode cX2_next 217 = .ok (.invokevirtual 338, 3) := dk_182 1 82 (dk_at dksX2_next_9 9 rfl rfl)
theorem dX2_next_220 : decode cX2_next 220 = .ok (.iadd, 1) := dk_96 (dk_at dksX2_next_9 12 rfl rfl)
theorem dX2_next_221 : decode cX2_next 221 = .ok (.bipush 48, 2) := dk_16 48 (dk_at dksX2_next_9 13 rfl rfl)
theorem dX2_next_223 : decode cX2_next 223 = .ok (.isub, 1) := dk_100 (dk_at dksX2_next_9 15 rfl rfl)
theorem dX2_next_224 : decode cX2_next 224 = .ok (.goto 7, 3) := dk_167 0 7 (dk_at dksX2_next_9 16 rfl rfl)
theorem dX2_next_227 : decode cX2_next 227 = .ok (.aload_n 0, 1) := dk_42 (dk_at dksX2_next_9 19 rfl rfl)
theorem dX2_next_228 : decode cX2_next 228 = .ok (.getfield 354, 3) := dk_180 1 98 (dk_at dksX2_next_9 20 rfl rfl)
theorem dX2_next_231 : decode cX2_next 231 = .ok (.putfield 354, 3) := dk_181 1 98 (dk_at dksX2_next_10 0 rfl rfl)
theorem dX2_next_234 : decode cX2_next 234 = .ok (.aload_n 0, 1) := dk_42 (dk_at dksX2_next_10 3 rfl rfl)
theorem dX2_next_235 : decode cX2_next 235 = .ok (.dup, 1) := dk_89 (dk_at dksX2_next_10 4 rfl rfl)
theorem dX2_next_236 : decode cX2_next 236 = .ok (.getfield 335, 3) := dk_180 1 79 (dk_at dksX2_next_10 5 rfl rfl)
theorem dX2_next_239 : decode cX2_next 239 = .ok (.iconst 1, 1) := dk_4 (dk_at dksX2_next_10 8 rfl rfl)
theorem dX2_next_240 : decode cX2_next 240 = .ok (.iadd, 1) := dk_96 (dk_at dksX2_next_10 9 rfl rfl)
theorem dX2_next_241 : decode cX2_next 241 = .ok (.putfield 335, 3) := dk_181 1 79 (dk_at dksX2_next_10 10 rfl rfl)
theorem dX2_next_244 : decode cX2_next 244 = .ok (.goto (-74), 3) := dk_167 255 182 (dk_at dksX2_next_10 13 rfl rfl)
theorem dX2_next_247 : decode cX2_next 247 = .ok (.aload_n 0, 1) := dk_42 (dk_at dksX2_next_10 16 rfl rfl)
theorem dX2_next_248 : decode cX2_next 248 = .ok (.aload_n 0, 1) := dk_42 (dk_at dksX2_next_10 17 rfl rfl)
theorem dX2_next_249 : decode cX2_next 249 = .ok (.getfield 335, 3) := dk_180 1 79 (dk_at dksX2_next_10 18 rfl rfl)
theorem dX2_next_252 : decode cX2_next 252 = .ok (.aload_n 0, 1) := dk_42 (dk_at dksX2_next_10 21 rfl rfl)
theorem dX2_next_253 : decode cX2_next 253 = .ok (.getfield 329, 3) := dk_180 1 73 (dk_at dksX2_next_11 0 rfl rfl)
theorem dX2_next_256 : decode cX2_next 256 = .ok (.isub, 1) := dk_100 (dk_at dksX2_next_11 3 rfl rfl)
theorem dX2_next_257 : decode cX2_next 257 = .ok (.iconst 2, 1) := dk_5 (dk_at dksX2_next_11 4 rfl rfl)
theorem dX2_next_258 : decode cX2_next 258 = .ok (.if_icmp .gt 7, 3) := dk_163 0 7 (dk_at dksX2_next_11 5 rfl rfl)
theorem dX2_next_261 : decode cX2_next 261 = .ok (.iconst 1, 1) := dk_4 (dk_at dksX2_next_11 8 rfl rfl)
theorem dX2_next_262 : decode cX2_next 262 = .ok (.goto 4, 3) := dk_167 0 4 (dk_at dksX2_next_11 9 rfl rfl)
theorem dX2_next_265 : decode cX2_next 265 = .ok (.iconst 0, 1) := dk_3 (dk_at dksX2_next_11 12 rfl rfl)
theorem dX2_next_266 : decode cX2_next 266 = .ok (.iconst 1, 1) := dk_4 (dk_at dksX2_next_11 13 rfl rfl)
theorem dX2_next_267 : decode cX2_next 267 = .ok (.invokevirtual 357, 3) := dk_182 1 101 (dk_at dksX2_next_11 14 rfl rfl)
theorem dX2_next_270 : decode cX2_next 270 = .ok (.goto 50, 3) := dk_167 0 50 (dk_at dksX2_next_11 17 rfl rfl)
theorem dX2_next_273 : decode cX2_next 273 = .ok (.aload_n 0, 1) := dk_42 (dk_at dksX2_next_11 20 rfl rfl)
theorem dX2_next_274 : decode cX2_next 274 = .ok (.iload_n 1, 1) := dk_27 (dk_at dksX2_next_11 21 rfl rfl)
theorem dX2_next_275 : decode cX2_next 275 = .ok (.bipush 59, 2) := dk_16 59 (dk_at dksX2_next_11 22 rfl rfl)
theorem dX2_next_277 : decode cX2_next 277 = .ok (.if_icmp .ne 7, 3) := dk_160 0 7 (dk_at dksX2_next_12 0 rfl rfl)
theorem dX2_next_280 : decode cX2_next 280 = .ok (.iconst 3, 1) := dk_6 (dk_at dksX2_next_12 3 rfl rfl)
theorem dX2_next_281 : decode cX2_next 281 = .ok (.goto 4, 3) := dk_167 0 4 (dk_at dksX2_next_12 4 rfl rfl)
theorem dX2_next_284 : decode cX2_next 284 = .ok (.iconst 4, 1) := dk_7 (dk_at dksX2_next_12 7 rfl rfl)
theorem dX2_next_285 : decode cX2_next 285 = .ok (.putfield 344, 3) := dk_181 1 88 (dk_at dksX2_next_12 8 rfl rfl)
theorem dX2_next_288 : decode cX2_next 288 = .ok (.aload_n 0, 1) := dk_42 (dk_at dksX2_next_12 11 rfl rfl)
theorem dX2_next_289 : decode cX2_next 289 = .ok (.iload_n 1, 1) := dk_27 (dk_at dksX2_next_12 12 rfl rfl)
theorem dX2_next_290 : decode cX2_next 290 = .ok (.bipush 59, 2) := dk_16 59 (dk_at dksX2_next_12 13 rfl rfl)
theorem dX2_next_292 : decode cX2_next 292 = .ok (.if_icmp .eq 9, 3) := dk_159 0 9 (dk_at dksX2_next_12 15 rfl rfl)
theorem dX2_next_295 : decode cX2_next 295 = .ok (.iload_n 1, 1) := dk_27 (dk_at dksX2_next_12 18 rfl rfl)
theorem dX2_next_296 : decode cX2_next 296 = .ok (.bipush 44, 2) := dk_16 44 (dk_at dksX2_next_12 19 rfl rfl)
theorem dX2_next_298 : decode cX2_next 298 = .ok (.if_icmp .ne 7, 3) := dk_160 0 7 (dk_at dksX2_next_12 21 rfl rfl)
theorem dX2_next_301 : decode cX2_next 301 = .ok (.iconst 1, 1) := dk_4 (dk_at dksX2_next_13 0 rfl rfl)
theorem dX2_next_302 : decode cX2_next 302 = .ok (.goto 4, 3) := dk_167 0 4 (dk_at dksX2_next_13 1 rfl rfl)
theorem dX2_next_305 : decode cX2_next 305 = .ok (.iconst 0, 1) := dk_3 (dk_at dksX2_next_13 4 rfl rfl)
theorem dX2_next_306 : decode cX2_next 306 = .ok (.iconst 1, 1) := dk_4 (dk_at dksX2_next_13 5 rfl rfl)
theorem dX2_next_307 : decode cX2_next 307 = .ok (.invokevirtual 357, 3) := dk_182 1 101 (dk_at dksX2_next_13 6 rfl rfl)
theorem dX2_next_310 : decode cX2_next 310 = .ok (.aload_n 0, 1) := dk_42 (dk_at dksX2_next_13 9 rfl rfl)
theorem dX2_next_311 : decode cX2_next 311 = .ok (.dup, 1) := dk_89 (dk_at dksX2_next_13 10 rfl rfl)
theorem dX2_next_312 : decode cX2_next 312 = .ok (.getfield 335, 3) := dk_180 1 79 (dk_at dksX2_next_13 11 rfl rfl)
theorem dX2_next_315 : decode cX2_next 315 = .ok (.iconst 1, 1) := dk_4 (dk_at dksX2_next_13 14 rfl rfl)
theorem dX2_next_316 : decode cX2_next 316 = .ok (.iadd, 1) := dk_96 (dk_at dksX2_next_13 15 rfl rfl)
theorem dX2_next_317 : decode cX2_next 317 = .ok (.putfield 335, 3) := dk_181 1 79 (dk_at dksX2_next_13 16 rfl rfl)
theorem dX2_next_320 : decode cX2_next 320 = .ok (.return_, 1) := dk_177 (dk_at dksX2_next_13 19 rfl rfl)
abbrev cX2_look : ByteArray := prog_11_method_67_code
def yX2_look : MethodName := ⟨RX2, "look", "(I)I"⟩
def dkwX2_look_0 : List UInt8 := [27, 42, 180, 1, 65, 162, 0, 12, 42, 180, 0, 105, 27, 46, 167, 0, 4, 2, 172]
abbrev dktX2_look_0 : List UInt8 := dkwX2_look_0 ++ []
theorem dksX2_look_0 : cX2_look.data.toList.drop 0 = dktX2_look_0 := by decide +kernel
theorem dX2_look_0 : decode cX2_look 0 = .ok (.iload_n 1, 1) := dk_27 (dk_at dksX2_look_0 0 rfl rfl)
theorem dX2_look_1 : decode cX2_look 1 = .ok (.aload_n 0, 1) := dk_42 (dk_at dksX2_look_0 1 rfl rfl)
theorem dX2_look_2 : decode cX2_look 2 = .ok (.getfield 321, 3) := dk_180 1 65 (dk_at dksX2_look_0 2 rfl rfl)
theorem dX2_look_5 : decode cX2_look 5 = .ok (.if_icmp .ge 12, 3) := dk_162 0 12 (dk_at dksX2_look_0 5 rfl rfl)
theorem dX2_look_8 : decode cX2_look 8 = .ok (.aload_n 0, 1) := dk_42 (dk_at dksX2_look_0 8 rfl rfl)
theorem dX2_look_9 : decode cX2_look 9 = .ok (.getfield 105, 3) := dk_180 0 105 (dk_at dksX2_look_0 9 rfl rfl)
theorem dX2_look_12 : decode cX2_look 12 = .ok (.iload_n 1, 1) := dk_27 (dk_at dksX2_look_0 12 rfl rfl)
theorem dX2_look_13 : decode cX2_look 13 = .ok (.iaload, 1) := dk_46 (dk_at dksX2_look_0 13 rfl rfl)
theorem dX2_look_14 : decode cX2_look 14 = .ok (.goto 4, 3) := dk_167 0 4 (dk_at dksX2_look_0 14 rfl rfl)
theorem dX2_look_17 : decode cX2_look 17 = .ok (.iconst (-1), 1) := dk_2 (dk_at dksX2_look_0 17 rfl rfl)
theorem dX2_look_18 : decode cX2_look 18 = .ok (.ireturn, 1) := dk_172 (dk_at dksX2_look_0 18 rfl rfl)
abbrev cX2_nameNow : ByteArray := prog_11_method_69_code
def yX2_nameNow : MethodName := ⟨RX2, "nameNow", "()I"⟩
def dkwX2_nameNow_5 : List UInt8 := [16, 110, 3, 3, 3, 182, 1, 85, 153, 0, 7, 8, 167, 0, 5, 16, 252, 172]
abbrev dktX2_nameNow_5 : List UInt8 := dkwX2_nameNow_5 ++ []
def dkwX2_nameNow_4 : List UInt8 := [153, 0, 20, 42, 42, 180, 1, 73, 8, 96, 182, 1, 82, 16, 101, 160, 0, 5, 7, 172, 42, 5, 16, 111]
abbrev dktX2_nameNow_4 : List UInt8 := dkwX2_nameNow_4 ++ dktX2_nameNow_5
def dkwX2_nameNow_3 : List UInt8 := [182, 1, 85, 153, 0, 5, 6, 172, 42, 16, 6, 16, 116, 16, 111, 16, 110, 16, 103, 16, 117, 182, 1, 85]
abbrev dktX2_nameNow_3 : List UInt8 := dkwX2_nameNow_3 ++ dktX2_nameNow_4
def dkwX2_nameNow_2 : List UInt8 := [16, 100, 3, 182, 1, 85, 153, 0, 5, 5, 172, 42, 7, 16, 110, 16, 97, 16, 109, 16, 101, 3]
abbrev dktX2_nameNow_2 : List UInt8 := dkwX2_nameNow_2 ++ dktX2_nameNow_3
def dkwX2_nameNow_1 : List UInt8 := [16, 111, 16, 117, 16, 110, 16, 100, 182, 1, 85, 153, 0, 5, 4, 172, 42, 7, 16, 119, 16, 111, 16, 114]
abbrev dktX2_nameNow_1 : List UInt8 := dkwX2_nameNow_1 ++ dktX2_nameNow_2
def dkwX2_nameNow_0 : List UInt8 := [42, 7, 16, 115, 16, 105, 16, 103, 16, 110, 3, 182, 1, 85, 153, 0, 5, 3, 172, 42, 8, 16, 115]
abbrev dktX2_nameNow_0 : List UInt8 := dkwX2_nameNow_0 ++ dktX2_nameNow_1
theorem dksX2_nameNow_0 : cX2_nameNow.data.toList.drop 0 = dktX2_nameNow_0 := by decide +kernel
theorem dksX2_nameNow_1 : cX2_nameNow.data.toList.drop 23 = dktX2_nameNow_1 := dk_seg dksX2_nameNow_0 23 rfl rfl
theorem dksX2_nameNow_2 : cX2_nameNow.data.toList.drop 47 = dktX2_nameNow_2 := dk_seg dksX2_nameNow_1 24 rfl rfl
theorem dksX2_nameNow_3 : cX2_nameNow.data.toList.drop 69 = dktX2_nameNow_3 := dk_seg dksX2_nameNow_2 22 rfl rfl
theorem dksX2_nameNow_4 : cX2_nameNow.data.toList.drop 93 = dktX2_nameNow_4 := dk_seg dksX2_nameNow_3 24 rfl rfl
theorem dksX2_nameNow_5 : cX2_nameNow.data.toList.drop 117 = dktX2_nameNow_5 := dk_seg dksX2_nameNow_4 24 rfl rfl
theorem dX2_nameNow_0 : decode cX2_nameNow 0 = .ok (.aload_n 0, 1) := dk_42 (dk_at dksX2_nameNow_0 0 rfl rfl)
theorem dX2_nameNow_1 : decode cX2_nameNow 1 = .ok (.iconst 4, 1) := dk_7 (dk_at dksX2_nameNow_0 1 rfl rfl)
theorem dX2_nameNow_2 : decode cX2_nameNow 2 = .ok (.bipush 115, 2) := dk_16 115 (dk_at dksX2_nameNow_0 2 rfl rfl)
theorem dX2_nameNow_4 : decode cX2_nameNow 4 = .ok (.bipush 105, 2) := dk_16 105 (dk_at dksX2_nameNow_0 4 rfl rfl)
theorem dX2_nameNow_6 : decode cX2_nameNow 6 = .ok (.bipush 103, 2) := dk_16 103 (dk_at dksX2_nameNow_0 6 rfl rfl)
theorem dX2_nameNow_8 : decode cX2_nameNow 8 = .ok (.bipush 110, 2) := dk_16 110 (dk_at dksX2_nameNow_0 8 rfl rfl)
theorem dX2_nameNow_10 : decode cX2_nameNow 10 = .ok (.iconst 0, 1) := dk_3 (dk_at dksX2_nameNow_0 10 rfl rfl)
theorem dX2_nameNow_11 : decode cX2_nameNow 11 = .ok (.invokevirtual 341, 3) := dk_182 1 85 (dk_at dksX2_nameNow_0 11 rfl rfl)
theorem dX2_nameNow_14 : decode cX2_nameNow 14 = .ok (.ifCond .eq 5, 3) := dk_153 0 5 (dk_at dksX2_nameNow_0 14 rfl rfl)
theorem dX2_nameNow_17 : decode cX2_nameNow 17 = .ok (.iconst 0, 1) := dk_3 (dk_at dksX2_nameNow_0 17 rfl rfl)
theorem dX2_nameNow_18 : decode cX2_nameNow 18 = .ok (.ireturn, 1) := dk_172 (dk_at dksX2_nameNow_0 18 rfl rfl)
theorem dX2_nameNow_19 : decode cX2_nameNow 19 = .ok (.aload_n 0, 1) := dk_42 (dk_at dksX2_nameNow_0 19 rfl rfl)
theorem dX2_nameNow_20 : decode cX2_nameNow 20 = .ok (.iconst 5, 1) := dk_8 (dk_at dksX2_nameNow_0 20 rfl rfl)
theorem dX2_nameNow_21 : decode cX2_nameNow 21 = .ok (.bipush 115, 2) := dk_16 115 (dk_at dksX2_nameNow_0 21 rfl rfl)
theorem dX2_nameNow_23 : decode cX2_nameNow 23 = .ok (.bipush 111, 2) := dk_16 111 (dk_at dksX2_nameNow_1 0 rfl rfl)
theorem dX2_nameNow_25 : decode cX2_nameNow 25 = .ok (.bipush 117, 2) := dk_16 117 (dk_at dksX2_nameNow_1 2 rfl rfl)
theorem dX2_nameNow_27 : decode cX2_nameNow 27 = .ok (.bipush 110, 2) := dk_16 110 (dk_at dksX2_nameNow_1 4 rfl rfl)
theorem dX2_nameNow_29 : decode cX2_nameNow 29 = .ok (.bipush 100, 2) := dk_16 100 (dk_at dksX2_nameNow_1 6 rfl rfl)
theorem dX2_nameNow_31 : decode cX2_nameNow 31 = .ok (.invokevirtual 341, 3) := dk_182 1 85 (dk_at dksX2_nameNow_1 8 rfl rfl)
theorem dX2_nameNow_34 : decode cX2_nameNow 34 = .ok (.ifCond .eq 5, 3) := dk_153 0 5 (dk_at dksX2_nameNow_1 11 rfl rfl)
theorem dX2_nameNow_37 : decode cX2_nameNow 37 = .ok (.iconst 1, 1) := dk_4 (dk_at dksX2_nameNow_1 14 rfl rfl)
theorem dX2_nameNow_38 : decode cX2_nameNow 38 = .ok (.ireturn, 1) := dk_172 (dk_at dksX2_nameNow_1 15 rfl rfl)
theorem dX2_nameNow_39 : decode cX2_nameNow 39 = .ok (.aload_n 0, 1) := dk_42 (dk_at dksX2_nameNow_1 16 rfl rfl)
theorem dX2_nameNow_40 : decode cX2_nameNow 40 = .ok (.iconst 4, 1) := dk_7 (dk_at dksX2_nameNow_1 17 rfl rfl)
theorem dX2_nameNow_41 : decode cX2_nameNow 41 = .ok (.bipush 119, 2) := dk_16 119 (dk_at dksX2_nameNow_1 18 rfl rfl)
theorem dX2_nameNow_43 : decode cX2_nameNow 43 = .ok (.bipush 111, 2) := dk_16 111 (dk_at dksX2_nameNow_1 20 rfl rfl)
theorem dX2_nameNow_45 : decode cX2_nameNow 45 = .ok (.bipush 114, 2) := dk_16 114 (dk_at dksX2_nameNow_1 22 rfl rfl)
theorem dX2_nameNow_47 : decode cX2_nameNow 47 = .ok (.bipush 100, 2) := dk_16 100 (dk_at dksX2_nameNow_2 0 rfl rfl)
theorem dX2_nameNow_49 : decode cX2_nameNow 49 = .ok (.iconst 0, 1) := dk_3 (dk_at dksX2_nameNow_2 2 rfl rfl)
theorem dX2_nameNow_50 : decode cX2_nameNow 50 = .ok (.invokevirtual 341, 3) := dk_182 1 85 (dk_at dksX2_nameNow_2 3 rfl rfl)
theorem dX2_nameNow_53 : decode cX2_nameNow 53 = .ok (.ifCond .eq 5, 3) := dk_153 0 5 (dk_at dksX2_nameNow_2 6 rfl rfl)
theorem dX2_nameNow_56 : decode cX2_nameNow 56 = .ok (.iconst 2, 1) := dk_5 (dk_at dksX2_nameNow_2 9 rfl rfl)
theorem dX2_nameNow_57 : decode cX2_nameNow 57 = .ok (.ireturn, 1) := dk_172 (dk_at dksX2_nameNow_2 10 rfl rfl)
theorem dX2_nameNow_58 : decode cX2_nameNow 58 = .ok (.aload_n 0, 1) := dk_42 (dk_at dksX2_nameNow_2 11 rfl rfl)
theorem dX2_nameNow_59 : decode cX2_nameNow 59 = .ok (.iconst 4, 1) := dk_7 (dk_at dksX2_nameNow_2 12 rfl rfl)
theorem dX2_nameNow_60 : decode cX2_nameNow 60 = .ok (.bipush 110, 2) := dk_16 110 (dk_at dksX2_nameNow_2 13 rfl rfl)
theorem dX2_nameNow_62 : decode cX2_nameNow 62 = .ok (.bipush 97, 2) := dk_16 97 (dk_at dksX2_nameNow_2 15 rfl rfl)
theorem dX2_nameNow_64 : decode cX2_nameNow 64 = .ok (.bipush 109, 2) := dk_16 109 (dk_at dksX2_nameNow_2 17 rfl rfl)
theorem dX2_nameNow_66 : decode cX2_nameNow 66 = .ok (.bipush 101, 2) := dk_16 101 (dk_at dksX2_nameNow_2 19 rfl rfl)
theorem dX2_nameNow_68 : decode cX2_nameNow 68 = .ok (.iconst 0, 1) := dk_3 (dk_at dksX2_nameNow_2 21 rfl rfl)
theorem dX2_nameNow_69 : decode cX2_nameNow 69 = .ok (.invokevirtual 341, 3) := dk_182 1 85 (dk_at dksX2_nameNow_3 0 rfl rfl)
theorem dX2_nameNow_72 : decode cX2_nameNow 72 = .ok (.ifCond .eq 5, 3) := dk_153 0 5 (dk_at dksX2_nameNow_3 3 rfl rfl)
theorem dX2_nameNow_75 : decode cX2_nameNow 75 = .ok (.iconst 3, 1) := dk_6 (dk_at dksX2_nameNow_3 6 rfl rfl)
theorem dX2_nameNow_76 : decode cX2_nameNow 76 = .ok (.ireturn, 1) := dk_172 (dk_at dksX2_nameNow_3 7 rfl rfl)
theorem dX2_nameNow_77 : decode cX2_nameNow 77 = .ok (.aload_n 0, 1) := dk_42 (dk_at dksX2_nameNow_3 8 rfl rfl)
theorem dX2_nameNow_78 : decode cX2_nameNow 78 = .ok (.bipush 6, 2) := dk_16 6 (dk_at dksX2_nameNow_3 9 rfl rfl)
theorem dX2_nameNow_80 : decode cX2_nameNow 80 = .ok (.bipush 116, 2) := dk_16 116 (dk_at dksX2_nameNow_3 11 rfl rfl)
theorem dX2_nameNow_82 : decode cX2_nameNow 82 = .ok (.bipush 111, 2) := dk_16 111 (dk_at dksX2_nameNow_3 13 rfl rfl)
theorem dX2_nameNow_84 : decode cX2_nameNow 84 = .ok (.bipush 110, 2) := dk_16 110 (dk_at dksX2_nameNow_3 15 rfl rfl)
theorem dX2_nameNow_86 : decode cX2_nameNow 86 = .ok (.bipush 103, 2) := dk_16 103 (dk_at dksX2_nameNow_3 17 rfl rfl)
theorem dX2_nameNow_88 : decode cX2_nameNow 88 = .ok (.bipush 117, 2) := dk_16 117 (dk_at dksX2_nameNow_3 19 rfl rfl)
theorem dX2_nameNow_90 : decode cX2_nameNow 90 = .ok (.invokevirtual 341, 3) := dk_182 1 85 (dk_at dksX2_nameNow_3 21 rfl rfl)
theorem dX2_nameNow_93 : decode cX2_nameNow 93 = .ok (.ifCond .eq 20, 3) := dk_153 0 20 (dk_at dksX2_nameNow_4 0 rfl rfl)
theorem dX2_nameNow_96 : decode cX2_nameNow 96 = .ok (.aload_n 0, 1) := dk_42 (dk_at dksX2_nameNow_4 3 rfl rfl)
theorem dX2_nameNow_97 : decode cX2_nameNow 97 = .ok (.aload_n 0, 1) := dk_42 (dk_at dksX2_nameNow_4 4 rfl rfl)
theorem dX2_nameNow_98 : decode cX2_nameNow 98 = .ok (.getfield 329, 3) := dk_180 1 73 (dk_at dksX2_nameNow_4 5 rfl rfl)
theorem dX2_nameNow_101 : decode cX2_nameNow 101 = .ok (.iconst 5, 1) := dk_8 (dk_at dksX2_nameNow_4 8 rfl rfl)
theorem dX2_nameNow_102 : decode cX2_nameNow 102 = .ok (.iadd, 1) := dk_96 (dk_at dksX2_nameNow_4 9 rfl rfl)
theorem dX2_nameNow_103 : decode cX2_nameNow 103 = .ok (.invokevirtual 338, 3) := dk_182 1 82 (dk_at dksX2_nameNow_4 10 rfl rfl)
theorem dX2_nameNow_106 : decode cX2_nameNow 106 = .ok (.bipush 101, 2) := dk_16 101 (dk_at dksX2_nameNow_4 13 rfl rfl)
theorem dX2_nameNow_108 : decode cX2_nameNow 108 = .ok (.if_icmp .ne 5, 3) := dk_160 0 5 (dk_at dksX2_nameNow_4 15 rfl rfl)
theorem dX2_nameNow_111 : decode cX2_nameNow 111 = .ok (.iconst 4, 1) := dk_7 (dk_at dksX2_nameNow_4 18 rfl rfl)
theorem dX2_nameNow_112 : decode cX2_nameNow 112 = .ok (.ireturn, 1) := dk_172 (dk_at dksX2_nameNow_4 19 rfl rfl)
theorem dX2_nameNow_113 : decode cX2_nameNow 113 = .ok (.aload_n 0, 1) := dk_42 (dk_at dksX2_nameNow_4 20 rfl rfl)
theorem dX2_nameNow_114 : decode cX2_nameNow 114 = .ok (.iconst 2, 1) := dk_5 (dk_at dksX2_nameNow_4 21 rfl rfl)
theorem dX2_nameNow_115 : decode cX2_nameNow 115 = .ok (.bipush 111, 2) := dk_16 111 (dk_at dksX2_nameNow_4 22 rfl rfl)
theorem dX2_nameNow_117 : decode cX2_nameNow 117 = .ok (.bipush 110, 2) := dk_16 110 (dk_at dksX2_nameNow_5 0 rfl rfl)
theorem dX2_nameNow_119 : decode cX2_nameNow 119 = .ok (.iconst 0, 1) := dk_3 (dk_at dksX2_nameNow_5 2 rfl rfl)
theorem dX2_nameNow_120 : decode cX2_nameNow 120 = .ok (.iconst 0, 1) := dk_3 (dk_at dksX2_nameNow_5 3 rfl rfl)
theorem dX2_nameNow_121 : decode cX2_nameNow 121 = .ok (.iconst 0, 1) := dk_3 (dk_at dksX2_nameNow_5 4 rfl rfl)
theorem dX2_nameNow_122 : decode cX2_nameNow 122 = .ok (.invokevirtual 341, 3) := dk_182 1 85 (dk_at dksX2_nameNow_5 5 rfl rfl)
theorem dX2_nameNow_125 : decode cX2_nameNow 125 = .ok (.ifCond .eq 7, 3) := dk_153 0 7 (dk_at dksX2_nameNow_5 8 rfl rfl)
theorem dX2_nameNow_128 : decode cX2_nameNow 128 = .ok (.iconst 5, 1) := dk_8 (dk_at dksX2_nameNow_5 11 rfl rfl)
theorem dX2_nameNow_129 : decode cX2_nameNow 129 = .ok (.goto 5, 3) := dk_167 0 5 (dk_at dksX2_nameNow_5 12 rfl rfl)
theorem dX2_nameNow_132 : decode cX2_nameNow 132 = .ok (.bipush (-4), 2) := dk_16 252 (dk_at dksX2_nameNow_5 15 rfl rfl)
theorem dX2_nameNow_134 : decode cX2_nameNow 134 = .ok (.ireturn, 1) := dk_172 (dk_at dksX2_nameNow_5 17 rfl rfl)
abbrev cX2_is : ByteArray := prog_11_method_68_code
def yX2_is : MethodName := ⟨RX2, "is", "(IIIIII)Z"⟩
def dkwX2_is_4 : List UInt8 := [160, 0, 7, 4, 167, 0, 4, 3, 172]
abbrev dktX2_is_4 : List UInt8 := dkwX2_is_4 ++ []
def dkwX2_is_3 : List UInt8 := [21, 5, 160, 0, 27, 27, 8, 161, 0, 18, 42, 42, 180, 1, 73, 7, 96, 182, 1, 82, 21, 6]
abbrev dktX2_is_3 : List UInt8 := dkwX2_is_3 ++ dktX2_is_4
def dkwX2_is_2 : List UInt8 := [180, 1, 73, 5, 96, 182, 1, 82, 21, 4, 160, 0, 42, 42, 42, 180, 1, 73, 6, 96, 182, 1, 82]
abbrev dktX2_is_2 : List UInt8 := dkwX2_is_2 ++ dktX2_is_3
def dkwX2_is_1 : List UInt8 := [160, 0, 76, 42, 42, 180, 1, 73, 4, 96, 182, 1, 82, 29, 160, 0, 62, 27, 6, 161, 0, 33, 42, 42]
abbrev dktX2_is_1 : List UInt8 := dkwX2_is_1 ++ dktX2_is_2
def dkwX2_is_0 : List UInt8 := [42, 180, 1, 79, 42, 180, 1, 73, 100, 27, 160, 0, 88, 42, 42, 180, 1, 73, 182, 1, 82, 28]
abbrev dktX2_is_0 : List UInt8 := dkwX2_is_0 ++ dktX2_is_1
theorem dksX2_is_0 : cX2_is.data.toList.drop 0 = dktX2_is_0 := by decide +kernel
theorem dksX2_is_1 : cX2_is.data.toList.drop 22 = dktX2_is_1 := dk_seg dksX2_is_0 22 rfl rfl
theorem dksX2_is_2 : cX2_is.data.toList.drop 46 = dktX2_is_2 := dk_seg dksX2_is_1 24 rfl rfl
theorem dksX2_is_3 : cX2_is.data.toList.drop 69 = dktX2_is_3 := dk_seg dksX2_is_2 23 rfl rfl
theorem dksX2_is_4 : cX2_is.data.toList.drop 91 = dktX2_is_4 := dk_seg dksX2_is_3 22 rfl rfl
theorem dX2_is_0 : decode cX2_is 0 = .ok (.aload_n 0, 1) := dk_42 (dk_at dksX2_is_0 0 rfl rfl)
theorem dX2_is_1 : decode cX2_is 1 = .ok (.getfield 335, 3) := dk_180 1 79 (dk_at dksX2_is_0 1 rfl rfl)
theorem dX2_is_4 : decode cX2_is 4 = .ok (.aload_n 0, 1) := dk_42 (dk_at dksX2_is_0 4 rfl rfl)
theorem dX2_is_5 : decode cX2_is 5 = .ok (.getfield 329, 3) := dk_180 1 73 (dk_at dksX2_is_0 5 rfl rfl)
theorem dX2_is_8 : decode cX2_is 8 = .ok (.isub, 1) := dk_100 (dk_at dksX2_is_0 8 rfl rfl)
theorem dX2_is_9 : decode cX2_is 9 = .ok (.iload_n 1, 1) := dk_27 (dk_at dksX2_is_0 9 rfl rfl)
theorem dX2_is_10 : decode cX2_is 10 = .ok (.if_icmp .ne 88, 3) := dk_160 0 88 (dk_at dksX2_is_0 10 rfl rfl)
theorem dX2_is_13 : decode cX2_is 13 = .ok (.aload_n 0, 1) := dk_42 (dk_at dksX2_is_0 13 rfl rfl)
theorem dX2_is_14 : decode cX2_is 14 = .ok (.aload_n 0, 1) := dk_42 (dk_at dksX2_is_0 14 rfl rfl)
theorem dX2_is_15 : decode cX2_is 15 = .ok (.getfield 329, 3) := dk_180 1 73 (dk_at dksX2_is_0 15 rfl rfl)
theorem dX2_is_18 : decode cX2_is 18 = .ok (.invokevirtual 338, 3) := dk_182 1 82 (dk_at dksX2_is_0 18 rfl rfl)
theorem dX2_is_21 : decode cX2_is 21 = .ok (.iload_n 2, 1) := dk_28 (dk_at dksX2_is_0 21 rfl rfl)
theorem dX2_is_22 : decode cX2_is 22 = .ok (.if_icmp .ne 76, 3) := dk_160 0 76 (dk_at dksX2_is_1 0 rfl rfl)
theorem dX2_is_25 : decode cX2_is 25 = .ok (.aload_n 0, 1) := dk_42 (dk_at dksX2_is_1 3 rfl rfl)
theorem dX2_is_26 : decode cX2_is 26 = .ok (.aload_n 0, 1) := dk_42 (dk_at dksX2_is_1 4 rfl rfl)
theorem dX2_is_27 : decode cX2_is 27 = .ok (.getfield 329, 3) := dk_180 1 73 (dk_at dksX2_is_1 5 rfl rfl)
theorem dX2_is_30 : decode cX2_is 30 = .ok (.iconst 1, 1) := dk_4 (dk_at dksX2_is_1 8 rfl rfl)
theorem dX2_is_31 : decode cX2_is 31 = .ok (.iadd, 1) := dk_96 (dk_at dksX2_is_1 9 rfl rfl)
theorem dX2_is_32 : decode cX2_is 32 = .ok (.invokevirtual 338, 3) := dk_182 1 82 (dk_at dksX2_is_1 10 rfl rfl)
theorem dX2_is_35 : decode cX2_is 35 = .ok (.iload_n 3, 1) := dk_29 (dk_at dksX2_is_1 13 rfl rfl)
theorem dX2_is_36 : decode cX2_is 36 = .ok (.if_icmp .ne 62, 3) := dk_160 0 62 (dk_at dksX2_is_1 14 rfl rfl)
theorem dX2_is_39 : decode cX2_is 39 = .ok (.iload_n 1, 1) := dk_27 (dk_at dksX2_is_1 17 rfl rfl)
theorem dX2_is_40 : decode cX2_is 40 = .ok (.iconst 3, 1) := dk_6 (dk_at dksX2_is_1 18 rfl rfl)
theorem dX2_is_41 : decode cX2_is 41 = .ok (.if_icmp .lt 33, 3) := dk_161 0 33 (dk_at dksX2_is_1 19 rfl rfl)
theorem dX2_is_44 : decode cX2_is 44 = .ok (.aload_n 0, 1) := dk_42 (dk_at dksX2_is_1 22 rfl rfl)
theorem dX2_is_45 : decode cX2_is 45 = .ok (.aload_n 0, 1) := dk_42 (dk_at dksX2_is_1 23 rfl rfl)
theorem dX2_is_46 : decode cX2_is 46 = .ok (.getfield 329, 3) := dk_180 1 73 (dk_at dksX2_is_2 0 rfl rfl)
theorem dX2_is_49 : decode cX2_is 49 = .ok (.iconst 2, 1) := dk_5 (dk_at dksX2_is_2 3 rfl rfl)
theorem dX2_is_50 : decode cX2_is 50 = .ok (.iadd, 1) := dk_96 (dk_at dksX2_is_2 4 rfl rfl)
theorem dX2_is_51 : decode cX2_is 51 = .ok (.invokevirtual 338, 3) := dk_182 1 82 (dk_at dksX2_is_2 5 rfl rfl)
theorem dX2_is_54 : decode cX2_is 54 = .ok (.iload 4, 2) := dk_21 4 (dk_at dksX2_is_2 8 rfl rfl)
theorem dX2_is_56 : decode cX2_is 56 = .ok (.if_icmp .ne 42, 3) := dk_160 0 42 (dk_at dksX2_is_2 10 rfl rfl)
theorem dX2_is_59 : decode cX2_is 59 = .ok (.aload_n 0, 1) := dk_42 (dk_at dksX2_is_2 13 rfl rfl)
theorem dX2_is_60 : decode cX2_is 60 = .ok (.aload_n 0, 1) := dk_42 (dk_at dksX2_is_2 14 rfl rfl)
theorem dX2_is_61 : decode cX2_is 61 = .ok (.getfield 329, 3) := dk_180 1 73 (dk_at dksX2_is_2 15 rfl rfl)
theorem dX2_is_64 : decode cX2_is 64 = .ok (.iconst 3, 1) := dk_6 (dk_at dksX2_is_2 18 rfl rfl)
theorem dX2_is_65 : decode cX2_is 65 = .ok (.iadd, 1) := dk_96 (dk_at dksX2_is_2 19 rfl rfl)
theorem dX2_is_66 : decode cX2_is 66 = .ok (.invokevirtual 338, 3) := dk_182 1 82 (dk_at dksX2_is_2 20 rfl rfl)
theorem dX2_is_69 : decode cX2_is 69 = .ok (.iload 5, 2) := dk_21 5 (dk_at dksX2_is_3 0 rfl rfl)
theorem dX2_is_71 : decode cX2_is 71 = .ok (.if_icmp .ne 27, 3) := dk_160 0 27 (dk_at dksX2_is_3 2 rfl rfl)
theorem dX2_is_74 : decode cX2_is 74 = .ok (.iload_n 1, 1) := dk_27 (dk_at dksX2_is_3 5 rfl rfl)
theorem dX2_is_75 : decode cX2_is 75 = .ok (.iconst 5, 1) := dk_8 (dk_at dksX2_is_3 6 rfl rfl)
theorem dX2_is_76 : decode cX2_is 76 = .ok (.if_icmp .lt 18, 3) := dk_161 0 18 (dk_at dksX2_is_3 7 rfl rfl)
theorem dX2_is_79 : decode cX2_is 79 = .ok (.aload_n 0, 1) := dk_42 (dk_at dksX2_is_3 10 rfl rfl)
theorem dX2_is_80 : decode cX2_is 80 = .ok (.aload_n 0, 1) := dk_42 (dk_at dksX2_is_3 11 rfl rfl)
theorem dX2_is_81 : decode cX2_is 81 = .ok (.getfield 329, 3) := dk_180 1 73 (dk_at dksX2_is_3 12 rfl rfl)
theorem dX2_is_84 : decode cX2_is 84 = .ok (.iconst 4, 1) := dk_7 (dk_at dksX2_is_3 15 rfl rfl)
theorem dX2_is_85 : decode cX2_is 85 = .ok (.iadd, 1) := dk_96 (dk_at dksX2_is_3 16 rfl rfl)
theorem dX2_is_86 : decode cX2_is 86 = .ok (.invokevirtual 338, 3) := dk_182 1 82 (dk_at dksX2_is_3 17 rfl rfl)
theorem dX2_is_89 : decode cX2_is 89 = .ok (.iload 6, 2) := dk_21 6 (dk_at dksX2_is_3 20 rfl rfl)
theorem dX2_is_91 : decode cX2_is 91 = .ok (.if_icmp .ne 7, 3) := dk_160 0 7 (dk_at dksX2_is_4 0 rfl rfl)
theorem dX2_is_94 : decode cX2_is 94 = .ok (.iconst 1, 1) := dk_4 (dk_at dksX2_is_4 3 rfl rfl)
theorem dX2_is_95 : decode cX2_is 95 = .ok (.goto 4, 3) := dk_167 0 4 (dk_at dksX2_is_4 4 rfl rfl)
theorem dX2_is_98 : decode cX2_is 98 = .ok (.iconst 0, 1) := dk_3 (dk_at dksX2_is_4 7 rfl rfl)
theorem dX2_is_99 : decode cX2_is 99 = .ok (.ireturn, 1) := dk_172 (dk_at dksX2_is_4 8 rfl rfl)
abbrev cX2_wants : ByteArray := prog_11_method_66_code
def yX2_wants : MethodName := ⟨RX2, "wants", "(ZI)V"⟩
def dkwX2_wants_1 : List UInt8 := [177]
abbrev dktX2_wants_1 : List UInt8 := dkwX2_wants_1 ++ []
def dkwX2_wants_0 : List UInt8 := [27, 154, 0, 23, 42, 180, 1, 70, 154, 0, 16, 42, 28, 181, 1, 70, 42, 42, 180, 1, 73, 181, 1, 76]
abbrev dktX2_wants_0 : List UInt8 := dkwX2_wants_0 ++ dktX2_wants_1
theorem dksX2_wants_0 : cX2_wants.data.toList.drop 0 = dktX2_wants_0 := by decide +kernel
theorem dksX2_wants_1 : cX2_wants.data.toList.drop 24 = dktX2_wants_1 := dk_seg dksX2_wants_0 24 rfl rfl
theorem dX2_wants_0 : decode cX2_wants 0 = .ok (.iload_n 1, 1) := dk_27 (dk_at dksX2_wants_0 0 rfl rfl)
theorem dX2_wants_1 : decode cX2_wants 1 = .ok (.ifCond .ne 23, 3) := dk_154 0 23 (dk_at dksX2_wants_0 1 rfl rfl)
theorem dX2_wants_4 : decode cX2_wants 4 = .ok (.aload_n 0, 1) := dk_42 (dk_at dksX2_wants_0 4 rfl rfl)
theorem dX2_wants_5 : decode cX2_wants 5 = .ok (.getfield 326, 3) := dk_180 1 70 (dk_at dksX2_wants_0 5 rfl rfl)
theorem dX2_wants_8 : decode cX2_wants 8 = .ok (.ifCond .ne 16, 3) := dk_154 0 16 (dk_at dksX2_wants_0 8 rfl rfl)
theorem dX2_wants_11 : decode cX2_wants 11 = .ok (.aload_n 0, 1) := dk_42 (dk_at dksX2_wants_0 11 rfl rfl)
theorem dX2_wants_12 : decode cX2_wants 12 = .ok (.iload_n 2, 1) := dk_28 (dk_at dksX2_wants_0 12 rfl rfl)
theorem dX2_wants_13 : decode cX2_wants 13 = .ok (.putfield 326, 3) := dk_181 1 70 (dk_at dksX2_wants_0 13 rfl rfl)
theorem dX2_wants_16 : decode cX2_wants 16 = .ok (.aload_n 0, 1) := dk_42 (dk_at dksX2_wants_0 16 rfl rfl)
theorem dX2_wants_17 : decode cX2_wants 17 = .ok (.aload_n 0, 1) := dk_42 (dk_at dksX2_wants_0 17 rfl rfl)
theorem dX2_wants_18 : decode cX2_wants 18 = .ok (.getfield 329, 3) := dk_180 1 73 (dk_at dksX2_wants_0 18 rfl rfl)
theorem dX2_wants_21 : decode cX2_wants 21 = .ok (.putfield 332, 3) := dk_181 1 76 (dk_at dksX2_wants_0 21 rfl rfl)
theorem dX2_wants_24 : decode cX2_wants 24 = .ok (.return_, 1) := dk_177 (dk_at dksX2_wants_1 0 rfl rfl)
abbrev cX2_readClaim : ByteArray := prog_11_method_72_code
def yX2_readClaim : MethodName := ⟨RX2, "readClaim", "(I)I"⟩
def dkwX2_readClaim_11 : List UInt8 := [27, 21, 4, 79, 27, 4, 96, 172]
abbrev dktX2_readClaim_11 : List UInt8 := dkwX2_readClaim_11 ++ []
def dkwX2_readClaim_10 : List UInt8 := [29, 79, 42, 180, 0, 114, 27, 42, 180, 1, 115, 79, 42, 180, 0, 117, 27, 16, 252, 79, 42, 180, 0, 120]
abbrev dktX2_readClaim_10 : List UInt8 := dkwX2_readClaim_10 ++ dktX2_readClaim_11
def dkwX2_readClaim_9 : List UInt8 := [182, 1, 109, 42, 180, 1, 70, 158, 0, 5, 27, 172, 42, 180, 0, 108, 27, 28, 79, 42, 180, 0, 111, 27]
abbrev dktX2_readClaim_9 : List UInt8 := dkwX2_readClaim_9 ++ dktX2_readClaim_10
def dkwX2_readClaim_8 : List UInt8 := [154, 0, 21, 42, 42, 180, 1, 88, 6, 160, 0, 7, 4, 167, 0, 4, 3, 5, 182, 1, 101, 42]
abbrev dktX2_readClaim_8 : List UInt8 := dkwX2_readClaim_8 ++ dktX2_readClaim_9
def dkwX2_readClaim_7 : List UInt8 := [160, 0, 18, 42, 180, 1, 98, 8, 160, 0, 10, 42, 27, 182, 1, 112, 54, 4, 42, 180, 1, 70]
abbrev dktX2_readClaim_7 : List UInt8 := dkwX2_readClaim_7 ++ dktX2_readClaim_8
def dkwX2_readClaim_6 : List UInt8 := [167, 255, 196, 42, 182, 1, 109, 3, 54, 4, 42, 180, 1, 70, 154, 0, 26, 42, 180, 1, 88, 4]
abbrev dktX2_readClaim_6 : List UInt8 := dkwX2_readClaim_6 ++ dktX2_readClaim_7
def dkwX2_readClaim_5 : List UInt8 := [180, 0, 117, 21, 4, 46, 16, 252, 159, 0, 7, 4, 167, 0, 4, 3, 7, 182, 1, 101, 132, 4, 1]
abbrev dktX2_readClaim_5 : List UInt8 := dkwX2_readClaim_5 ++ dktX2_readClaim_6
def dkwX2_readClaim_4 : List UInt8 := [180, 0, 108, 21, 4, 46, 28, 160, 0, 26, 42, 180, 0, 111, 21, 4, 46, 29, 160, 0, 15, 42]
abbrev dktX2_readClaim_4 : List UInt8 := dkwX2_readClaim_4 ++ dktX2_readClaim_5
def dkwX2_readClaim_3 : List UInt8 := [180, 1, 98, 62, 3, 54, 4, 21, 4, 27, 162, 0, 60, 42, 180, 1, 70, 154, 0, 53, 42, 42]
abbrev dktX2_readClaim_3 : List UInt8 := dkwX2_readClaim_3 ++ dktX2_readClaim_4
def dkwX2_readClaim_2 : List UInt8 := [42, 182, 1, 109, 42, 42, 180, 1, 88, 5, 160, 0, 7, 4, 167, 0, 4, 3, 5, 182, 1, 101, 42]
abbrev dktX2_readClaim_2 : List UInt8 := dkwX2_readClaim_2 ++ dktX2_readClaim_3
def dkwX2_readClaim_1 : List UInt8 := [182, 1, 101, 42, 27, 16, 20, 162, 0, 7, 4, 167, 0, 4, 3, 8, 182, 1, 101, 42, 180, 1, 98, 61]
abbrev dktX2_readClaim_1 : List UInt8 := dkwX2_readClaim_1 ++ dktX2_readClaim_2
def dkwX2_readClaim_0 : List UInt8 := [42, 42, 180, 1, 88, 4, 160, 0, 15, 42, 180, 1, 98, 8, 162, 0, 7, 4, 167, 0, 4, 3, 5]
abbrev dktX2_readClaim_0 : List UInt8 := dkwX2_readClaim_0 ++ dktX2_readClaim_1
theorem dksX2_readClaim_0 : cX2_readClaim.data.toList.drop 0 = dktX2_readClaim_0 := by decide +kernel
theorem dksX2_readClaim_1 : cX2_readClaim.data.toList.drop 23 = dktX2_readClaim_1 := dk_seg dksX2_readClaim_0 23 rfl rfl
theorem dksX2_readClaim_2 : cX2_readClaim.data.toList.drop 47 = dktX2_readClaim_2 := dk_seg dksX2_readClaim_1 24 rfl rfl
theorem dksX2_readClaim_3 : cX2_readClaim.data.toList.drop 70 = dktX2_readClaim_3 := dk_seg dksX2_readClaim_2 23 rfl rfl
theorem dksX2_readClaim_4 : cX2_readClaim.data.toList.drop 92 = dktX2_readClaim_4 := dk_seg dksX2_readClaim_3 22 rfl rfl
theorem dksX2_readClaim_5 : cX2_readClaim.data.toList.drop 114 = dktX2_readClaim_5 := dk_seg dksX2_readClaim_4 22 rfl rfl
theorem dksX2_readClaim_6 : cX2_readClaim.data.toList.drop 137 = dktX2_readClaim_6 := dk_seg dksX2_readClaim_5 23 rfl rfl
theorem dksX2_readClaim_7 : cX2_readClaim.data.toList.drop 159 = dktX2_readClaim_7 := dk_seg dksX2_readClaim_6 22 rfl rfl
theorem dksX2_readClaim_8 : cX2_readClaim.data.toList.drop 181 = dktX2_readClaim_8 := dk_seg dksX2_readClaim_7 22 rfl rfl
theorem dksX2_readClaim_9 : cX2_readClaim.data.toList.drop 203 = dktX2_readClaim_9 := dk_seg dksX2_readClaim_8 22 rfl rfl
theorem dksX2_readClaim_10 : cX2_readClaim.data.toList.drop 227 = dktX2_readClaim_10 := dk_seg dksX2_readClaim_9 24 rfl rfl
theorem dksX2_readClaim_11 : cX2_readClaim.data.toList.drop 251 = dktX2_readClaim_11 := dk_seg dksX2_readClaim_10 24 rfl rfl
theorem dX2_readClaim_0 : decode cX2_readClaim 0 = .ok (.aload_n 0, 1) := dk_42 (dk_at dksX2_readClaim_0 0 rfl rfl)
theorem dX2_readClaim_1 : decode cX2_readClaim 1 = .ok (.aload_n 0, 1) := dk_42 (dk_at dksX2_readClaim_0 1 rfl rfl)
theorem dX2_readClaim_2 : decode cX2_readClaim 2 = .ok (.getfield 344, 3) := dk_180 1 88 (dk_at dksX2_readClaim_0 2 rfl rfl)
theorem dX2_readClaim_5 : decode cX2_readClaim 5 = .ok (.iconst 1, 1) := dk_4 (dk_at dksX2_readClaim_0 5 rfl rfl)
theorem dX2_readClaim_6 : decode cX2_readClaim 6 = .ok (.if_icmp .ne 15, 3) := dk_160 0 15 (dk_at dksX2_readClaim_0 6 rfl rfl)
theorem dX2_readClaim_9 : decode cX2_readClaim 9 = .ok (.aload_n 0, 1) := dk_42 (dk_at dksX2_readClaim_0 9 rfl rfl)
theorem dX2_readClaim_10 : decode cX2_readClaim 10 = .ok (.getfield 354, 3) := dk_180 1 98 (dk_at dksX2_readClaim_0 10 rfl rfl)
theorem dX2_readClaim_13 : decode cX2_readClaim 13 = .ok (.iconst 5, 1) := dk_8 (dk_at dksX2_readClaim_0 13 rfl rfl)
theorem dX2_readClaim_14 : decode cX2_readClaim 14 = .ok (.if_icmp .ge 7, 3) := dk_162 0 7 (dk_at dksX2_readClaim_0 14 rfl rfl)
theorem dX2_readClaim_17 : decode cX2_readClaim 17 = .ok (.iconst 1, 1) := dk_4 (dk_at dksX2_readClaim_0 17 rfl rfl)
theorem dX2_readClaim_18 : decode cX2_readClaim 18 = .ok (.goto 4, 3) := dk_167 0 4 (dk_at dksX2_readClaim_0 18 rfl rfl)
theorem dX2_readClaim_21 : decode cX2_readClaim 21 = .ok (.iconst 0, 1) := dk_3 (dk_at dksX2_readClaim_0 21 rfl rfl)
theorem dX2_readClaim_22 : decode cX2_readClaim 22 = .ok (.iconst 2, 1) := dk_5 (dk_at dksX2_readClaim_0 22 rfl rfl)
theorem dX2_readClaim_23 : decode cX2_readClaim 23 = .ok (.invokevirtual 357, 3) := dk_182 1 101 (dk_at dksX2_readClaim_1 0 rfl rfl)
theorem dX2_readClaim_26 : decode cX2_readClaim 26 = .ok (.aload_n 0, 1) := dk_42 (dk_at dksX2_readClaim_1 3 rfl rfl)
theorem dX2_readClaim_27 : decode cX2_readClaim 27 = .ok (.iload_n 1, 1) := dk_27 (dk_at dksX2_readClaim_1 4 rfl rfl)
theorem dX2_readClaim_28 : decode cX2_readClaim 28 = .ok (.bipush 20, 2) := dk_16 20 (dk_at dksX2_readClaim_1 5 rfl rfl)
theorem dX2_readClaim_30 : decode cX2_readClaim 30 = .ok (.if_icmp .ge 7, 3) := dk_162 0 7 (dk_at dksX2_readClaim_1 7 rfl rfl)
theorem dX2_readClaim_33 : decode cX2_readClaim 33 = .ok (.iconst 1, 1) := dk_4 (dk_at dksX2_readClaim_1 10 rfl rfl)
theorem dX2_readClaim_34 : decode cX2_readClaim 34 = .ok (.goto 4, 3) := dk_167 0 4 (dk_at dksX2_readClaim_1 11 rfl rfl)
theorem dX2_readClaim_37 : decode cX2_readClaim 37 = .ok (.iconst 0, 1) := dk_3 (dk_at dksX2_readClaim_1 14 rfl rfl)
theorem dX2_readClaim_38 : decode cX2_readClaim 38 = .ok (.iconst 5, 1) := dk_8 (dk_at dksX2_readClaim_1 15 rfl rfl)
theorem dX2_readClaim_39 : decode cX2_readClaim 39 = .ok (.invokevirtual 357, 3) := dk_182 1 101 (dk_at dksX2_readClaim_1 16 rfl rfl)
theorem dX2_readClaim_42 : decode cX2_readClaim 42 = .ok (.aload_n 0, 1) := dk_42 (dk_at dksX2_readClaim_1 19 rfl rfl)
theorem dX2_readClaim_43 : decode cX2_readClaim 43 = .ok (.getfield 354, 3) := dk_180 1 98 (dk_at dksX2_readClaim_1 20 rfl rfl)
theorem dX2_readClaim_46 : decode cX2_readClaim 46 = .ok (.istore_n 2, 1) := dk_61 (dk_at dksX2_readClaim_1 23 rfl rfl)
theorem dX2_readClaim_47 : decode cX2_readClaim 47 = .ok (.aload_n 0, 1) := dk_42 (dk_at dksX2_readClaim_2 0 rfl rfl)
theorem dX2_readClaim_48 : decode cX2_readClaim 48 = .ok (.invokevirtual 365, 3) := dk_182 1 109 (dk_at dksX2_readClaim_2 1 rfl rfl)
theorem dX2_readClaim_51 : decode cX2_readClaim 51 = .ok (.aload_n 0, 1) := dk_42 (dk_at dksX2_readClaim_2 4 rfl rfl)
theorem dX2_readClaim_52 : decode cX2_readClaim 52 = .ok (.aload_n 0, 1) := dk_42 (dk_at dksX2_readClaim_2 5 rfl rfl)
theorem dX2_readClaim_53 : decode cX2_readClaim 53 = .ok (.getfield 344, 3) := dk_180 1 88 (dk_at dksX2_readClaim_2 6 rfl rfl)
theorem dX2_readClaim_56 : decode cX2_readClaim 56 = .ok (.iconst 2, 1) := dk_5 (dk_at dksX2_readClaim_2 9 rfl rfl)
theorem dX2_readClaim_57 : decode cX2_readClaim 57 = .ok (.if_icmp .ne 7, 3) := dk_160 0 7 (dk_at dksX2_readClaim_2 10 rfl rfl)
theorem dX2_readClaim_60 : decode cX2_readClaim 60 = .ok (.iconst 1, 1) := dk_4 (dk_at dksX2_readClaim_2 13 rfl rfl)
theorem dX2_readClaim_61 : decode cX2_readClaim 61 = .ok (.goto 4, 3) := dk_167 0 4 (dk_at dksX2_readClaim_2 14 rfl rfl)
theorem dX2_readClaim_64 : decode cX2_readClaim 64 = .ok (.iconst 0, 1) := dk_3 (dk_at dksX2_readClaim_2 17 rfl rfl)
theorem dX2_readClaim_65 : decode cX2_readClaim 65 = .ok (.iconst 2, 1) := dk_5 (dk_at dksX2_readClaim_2 18 rfl rfl)
theorem dX2_readClaim_66 : decode cX2_readClaim 66 = .ok (.invokevirtual 357, 3) := dk_182 1 101 (dk_at dksX2_readClaim_2 19 rfl rfl)
theorem dX2_readClaim_69 : decode cX2_readClaim 69 = .ok (.aload_n 0, 1) := dk_42 (dk_at dksX2_readClaim_2 22 rfl rfl)
theorem dX2_readClaim_70 : decode cX2_readClaim 70 = .ok (.getfield 354, 3) := dk_180 1 98 (dk_at dksX2_readClaim_3 0 rfl rfl)
theorem dX2_readClaim_73 : decode cX2_readClaim 73 = .ok (.istore_n 3, 1) := dk_62 (dk_at dksX2_readClaim_3 3 rfl rfl)
theorem dX2_readClaim_74 : decode cX2_readClaim 74 = .ok (.iconst 0, 1) := dk_3 (dk_at dksX2_readClaim_3 4 rfl rfl)
theorem dX2_readClaim_75 : decode cX2_readClaim 75 = .ok (.istore 4, 2) := dk_54 4 (dk_at dksX2_readClaim_3 5 rfl rfl)
theorem dX2_readClaim_77 : decode cX2_readClaim 77 = .ok (.iload 4, 2) := dk_21 4 (dk_at dksX2_readClaim_3 7 rfl rfl)
theorem dX2_readClaim_79 : decode cX2_readClaim 79 = .ok (.iload_n 1, 1) := dk_27 (dk_at dksX2_readClaim_3 9 rfl rfl)
theorem dX2_readClaim_80 : decode cX2_readClaim 80 = .ok (.if_icmp .ge 60, 3) := dk_162 0 60 (dk_at dksX2_readClaim_3 10 rfl rfl)
theorem dX2_readClaim_83 : decode cX2_readClaim 83 = .ok (.aload_n 0, 1) := dk_42 (dk_at dksX2_readClaim_3 13 rfl rfl)
theorem dX2_readClaim_84 : decode cX2_readClaim 84 = .ok (.getfield 326, 3) := dk_180 1 70 (dk_at dksX2_readClaim_3 14 rfl rfl)
theorem dX2_readClaim_87 : decode cX2_readClaim 87 = .ok (.ifCond .ne 53, 3) := dk_154 0 53 (dk_at dksX2_readClaim_3 17 rfl rfl)
theorem dX2_readClaim_90 : decode cX2_readClaim 90 = .ok (.aload_n 0, 1) := dk_42 (dk_at dksX2_readClaim_3 20 rfl rfl)
theorem dX2_readClaim_91 : decode cX2_readClaim 91 = .ok (.aload_n 0, 1) := dk_42 (dk_at dksX2_readClaim_3 21 rfl rfl)
theorem dX2_readClaim_92 : decode cX2_readClaim 92 = .ok (.getfield 108, 3) := dk_180 0 108 (dk_at dksX2_readClaim_4 0 rfl rfl)
theorem dX2_readClaim_95 : decode cX2_readClaim 95 = .ok (.iload 4, 2) := dk_21 4 (dk_at dksX2_readClaim_4 3 rfl rfl)
theorem dX2_readClaim_97 : decode cX2_readClaim 97 = .ok (.iaload, 1) := dk_46 (dk_at dksX2_readClaim_4 5 rfl rfl)
theorem dX2_readClaim_98 : decode cX2_readClaim 98 = .ok (.iload_n 2, 1) := dk_28 (dk_at dksX2_readClaim_4 6 rfl rfl)
theorem dX2_readClaim_99 : decode cX2_readClaim 99 = .ok (.if_icmp .ne 26, 3) := dk_160 0 26 (dk_at dksX2_readClaim_4 7 rfl rfl)
theorem dX2_readClaim_102 : decode cX2_readClaim 102 = .ok (.aload_n 0, 1) := dk_42 (dk_at dksX2_readClaim_4 10 rfl rfl)
theorem dX2_readClaim_103 : decode cX2_readClaim 103 = .ok (.getfield 111, 3) := dk_180 0 111 (dk_at dksX2_readClaim_4 11 rfl rfl)
theorem dX2_readClaim_106 : decode cX2_readClaim 106 = .ok (.iload 4, 2) := dk_21 4 (dk_at dksX2_readClaim_4 14 rfl rfl)
theorem dX2_readClaim_108 : decode cX2_readClaim 108 = .ok (.iaload, 1) := dk_46 (dk_at dksX2_readClaim_4 16 rfl rfl)
theorem dX2_readClaim_109 : decode cX2_readClaim 109 = .ok (.iload_n 3, 1) := dk_29 (dk_at dksX2_readClaim_4 17 rfl rfl)
theorem dX2_readClaim_110 : decode cX2_readClaim 110 = .ok (.if_icmp .ne 15, 3) := dk_160 0 15 (dk_at dksX2_readClaim_4 18 rfl rfl)
theorem dX2_readClaim_113 : decode cX2_readClaim 113 = .ok (.aload_n 0, 1) := dk_42 (dk_at dksX2_readClaim_4 21 rfl rfl)
theorem dX2_readClaim_114 : decode cX2_readClaim 114 = .ok (.getfield 117, 3) := dk_180 0 117 (dk_at dksX2_readClaim_5 0 rfl rfl)
theorem dX2_readClaim_117 : decode cX2_readClaim 117 = .ok (.iload 4, 2) := dk_21 4 (dk_at dksX2_readClaim_5 3 rfl rfl)
theorem dX2_readClaim_119 : decode cX2_readClaim 119 = .ok (.iaload, 1) := dk_46 (dk_at dksX2_readClaim_5 5 rfl rfl)
theorem dX2_readClaim_120 : decode cX2_readClaim 120 = .ok (.bipush (-4), 2) := dk_16 252 (dk_at dksX2_readClaim_5 6 rfl rfl)
theorem dX2_readClaim_122 : decode cX2_readClaim 122 = .ok (.if_icmp .eq 7, 3) := dk_159 0 7 (dk_at dksX2_readClaim_5 8 rfl rfl)
theorem dX2_readClaim_125 : decode cX2_readClaim 125 = .ok (.iconst 1, 1) := dk_4 (dk_at dksX2_readClaim_5 11 rfl rfl)
theorem dX2_readClaim_126 : decode cX2_readClaim 126 = .ok (.goto 4, 3) := dk_167 0 4 (dk_at dksX2_readClaim_5 12 rfl rfl)
theorem dX2_readClaim_129 : decode cX2_readClaim 129 = .ok (.iconst 0, 1) := dk_3 (dk_at dksX2_readClaim_5 15 rfl rfl)
theorem dX2_readClaim_130 : decode cX2_readClaim 130 = .ok (.iconst 4, 1) := dk_7 (dk_at dksX2_readClaim_5 16 rfl rfl)
theorem dX2_readClaim_131 : decode cX2_readClaim 131 = .ok (.invokevirtual 357, 3) := dk_182 1 101 (dk_at dksX2_readClaim_5 17 rfl rfl)
theorem dX2_readClaim_134 : decode cX2_readClaim 134 = .ok (.iinc 4 1, 3) := dk_132 4 1 (dk_at dksX2_readClaim_5 20 rfl rfl)
theorem dX2_readClaim_137 : decode cX2_readClaim 137 = .ok (.goto (-60), 3) := dk_167 255 196 (dk_at dksX2_readClaim_6 0 rfl rfl)
theorem dX2_readClaim_140 : decode cX2_readClaim 140 = .ok (.aload_n 0, 1) := dk_42 (dk_at dksX2_readClaim_6 3 rfl rfl)
theorem dX2_readClaim_141 : decode cX2_readClaim 141 = .ok (.invokevirtual 365, 3) := dk_182 1 109 (dk_at dksX2_readClaim_6 4 rfl rfl)
theorem dX2_readClaim_144 : decode cX2_readClaim 144 = .ok (.iconst 0, 1) := dk_3 (dk_at dksX2_readClaim_6 7 rfl rfl)
theorem dX2_readClaim_145 : decode cX2_readClaim 145 = .ok (.istore 4, 2) := dk_54 4 (dk_at dksX2_readClaim_6 8 rfl rfl)
theorem dX2_readClaim_147 : decode cX2_readClaim 147 = .ok (.aload_n 0, 1) := dk_42 (dk_at dksX2_readClaim_6 10 rfl rfl)
theorem dX2_readClaim_148 : decode cX2_readClaim 148 = .ok (.getfield 326, 3) := dk_180 1 70 (dk_at dksX2_readClaim_6 11 rfl rfl)
theorem dX2_readClaim_151 : decode cX2_readClaim 151 = .ok (.ifCond .ne 26, 3) := dk_154 0 26 (dk_at dksX2_readClaim_6 14 rfl rfl)
theorem dX2_readClaim_154 : decode cX2_readClaim 154 = .ok (.aload_n 0, 1) := dk_42 (dk_at dksX2_readClaim_6 17 rfl rfl)
theorem dX2_readClaim_155 : decode cX2_readClaim 155 = .ok (.getfield 344, 3) := dk_180 1 88 (dk_at dksX2_readClaim_6 18 rfl rfl)
theorem dX2_readClaim_158 : decode cX2_readClaim 158 = .ok (.iconst 1, 1) := dk_4 (dk_at dksX2_readClaim_6 21 rfl rfl)
theorem dX2_readClaim_159 : decode cX2_readClaim 159 = .ok (.if_icmp .ne 18, 3) := dk_160 0 18 (dk_at dksX2_readClaim_7 0 rfl rfl)
theorem dX2_readClaim_162 : decode cX2_readClaim 162 = .ok (.aload_n 0, 1) := dk_42 (dk_at dksX2_readClaim_7 3 rfl rfl)
theorem dX2_readClaim_163 : decode cX2_readClaim 163 = .ok (.getfield 354, 3) := dk_180 1 98 (dk_at dksX2_readClaim_7 4 rfl rfl)
theorem dX2_readClaim_166 : decode cX2_readClaim 166 = .ok (.iconst 5, 1) := dk_8 (dk_at dksX2_readClaim_7 7 rfl rfl)
theorem dX2_readClaim_167 : decode cX2_readClaim 167 = .ok (.if_icmp .ne 10, 3) := dk_160 0 10 (dk_at dksX2_readClaim_7 8 rfl rfl)
theorem dX2_readClaim_170 : decode cX2_readClaim 170 = .ok (.aload_n 0, 1) := dk_42 (dk_at dksX2_readClaim_7 11 rfl rfl)
theorem dX2_readClaim_171 : decode cX2_readClaim 171 = .ok (.iload_n 1, 1) := dk_27 (dk_at dksX2_readClaim_7 12 rfl rfl)
theorem dX2_readClaim_172 : decode cX2_readClaim 172 = .ok (.invokevirtual 368, 3) := dk_182 1 112 (dk_at dksX2_readClaim_7 13 rfl rfl)
theorem dX2_readClaim_175 : decode cX2_readClaim 175 = .ok (.istore 4, 2) := dk_54 4 (dk_at dksX2_readClaim_7 16 rfl rfl)
theorem dX2_readClaim_177 : decode cX2_readClaim 177 = .ok (.aload_n 0, 1) := dk_42 (dk_at dksX2_readClaim_7 18 rfl rfl)
theorem dX2_readClaim_178 : decode cX2_readClaim 178 = .ok (.getfield 326, 3) := dk_180 1 70 (dk_at dksX2_readClaim_7 19 rfl rfl)
theorem dX2_readClaim_181 : decode cX2_readClaim 181 = .ok (.ifCond .ne 21, 3) := dk_154 0 21 (dk_at dksX2_readClaim_8 0 rfl rfl)
theorem dX2_readClaim_184 : decode cX2_readClaim 184 = .ok (.aload_n 0, 1) := dk_42 (dk_at dksX2_readClaim_8 3 rfl rfl)
theorem dX2_readClaim_185 : decode cX2_readClaim 185 = .ok (.aload_n 0, 1) := dk_42 (dk_at dksX2_readClaim_8 4 rfl rfl)
theorem dX2_readClaim_186 : decode cX2_readClaim 186 = .ok (.getfield 344, 3) := dk_180 1 88 (dk_at dksX2_readClaim_8 5 rfl rfl)
theorem dX2_readClaim_189 : decode cX2_readClaim 189 = .ok (.iconst 3, 1) := dk_6 (dk_at dksX2_readClaim_8 8 rfl rfl)
theorem dX2_readClaim_190 : decode cX2_readClaim 190 = .ok (.if_icmp .ne 7, 3) := dk_160 0 7 (dk_at dksX2_readClaim_8 9 rfl rfl)
theorem dX2_readClaim_193 : decode cX2_readClaim 193 = .ok (.iconst 1, 1) := dk_4 (dk_at dksX2_readClaim_8 12 rfl rfl)
theorem dX2_readClaim_194 : decode cX2_readClaim 194 = .ok (.goto 4, 3) := dk_167 0 4 (dk_at dksX2_readClaim_8 13 rfl rfl)
theorem dX2_readClaim_197 : decode cX2_readClaim 197 = .ok (.iconst 0, 1) := dk_3 (dk_at dksX2_readClaim_8 16 rfl rfl)
theorem dX2_readClaim_198 : decode cX2_readClaim 198 = .ok (.iconst 2, 1) := dk_5 (dk_at dksX2_readClaim_8 17 rfl rfl)
theorem dX2_readClaim_199 : decode cX2_readClaim 199 = .ok (.invokevirtual 357, 3) := dk_182 1 101 (dk_at dksX2_readClaim_8 18 rfl rfl)
theorem dX2_readClaim_202 : decode cX2_readClaim 202 = .ok (.aload_n 0, 1) := dk_42 (dk_at dksX2_readClaim_8 21 rfl rfl)
theorem dX2_readClaim_203 : decode cX2_readClaim 203 = .ok (.invokevirtual 365, 3) := dk_182 1 109 (dk_at dksX2_readClaim_9 0 rfl rfl)
theorem dX2_readClaim_206 : decode cX2_readClaim 206 = .ok (.aload_n 0, 1) := dk_42 (dk_at dksX2_readClaim_9 3 rfl rfl)
theorem dX2_readClaim_207 : decode cX2_readClaim 207 = .ok (.getfield 326, 3) := dk_180 1 70 (dk_at dksX2_readClaim_9 4 rfl rfl)
theorem dX2_readClaim_210 : decode cX2_readClaim 210 = .ok (.ifCond .le 5, 3) := dk_158 0 5 (dk_at dksX2_readClaim_9 7 rfl rfl)
theorem dX2_readClaim_213 : decode cX2_readClaim 213 = .ok (.iload_n 1, 1) := dk_27 (dk_at dksX2_readClaim_9 10 rfl rfl)
theorem dX2_readClaim_214 : decode cX2_readClaim 214 = .ok (.ireturn, 1) := dk_172 (dk_at dksX2_readClaim_9 11 rfl rfl)
theorem dX2_readClaim_215 : decode cX2_readClaim 215 = .ok (.aload_n 0, 1) := dk_42 (dk_at dksX2_readClaim_9 12 rfl rfl)
theorem dX2_readClaim_216 : decode cX2_readClaim 216 = .ok (.getfield 108, 3) := dk_180 0 108 (dk_at dksX2_readClaim_9 13 rfl rfl)
theorem dX2_readClaim_219 : decode cX2_readClaim 219 = .ok (.iload_n 1, 1) := dk_27 (dk_at dksX2_readClaim_9 16 rfl rfl)
theorem dX2_readClaim_220 : decode cX2_readClaim 220 = .ok (.iload_n 2, 1) := dk_28 (dk_at dksX2_readClaim_9 17 rfl rfl)
theorem dX2_readClaim_221 : decode cX2_readClaim 221 = .ok (.iastore, 1) := dk_79 (dk_at dksX2_readClaim_9 18 rfl rfl)
theorem dX2_readClaim_222 : decode cX2_readClaim 222 = .ok (.aload_n 0, 1) := dk_42 (dk_at dksX2_readClaim_9 19 rfl rfl)
theorem dX2_readClaim_223 : decode cX2_readClaim 223 = .ok (.getfield 111, 3) := dk_180 0 111 (dk_at dksX2_readClaim_9 20 rfl rfl)
theorem dX2_readClaim_226 : decode cX2_readClaim 226 = .ok (.iload_n 1, 1) := dk_27 (dk_at dksX2_readClaim_9 23 rfl rfl)
theorem dX2_readClaim_227 : decode cX2_readClaim 227 = .ok (.iload_n 3, 1) := dk_29 (dk_at dksX2_readClaim_10 0 rfl rfl)
theorem dX2_readClaim_228 : decode cX2_readClaim 228 = .ok (.iastore, 1) := dk_79 (dk_at dksX2_readClaim_10 1 rfl rfl)
theorem dX2_readClaim_229 : decode cX2_readClaim 229 = .ok (.aload_n 0, 1) := dk_42 (dk_at dksX2_readClaim_10 2 rfl rfl)
theorem dX2_readClaim_230 : decode cX2_readClaim 230 = .ok (.getfield 114, 3) := dk_180 0 114 (dk_at dksX2_readClaim_10 3 rfl rfl)
theorem dX2_readClaim_233 : decode cX2_readClaim 233 = .ok (.iload_n 1, 1) := dk_27 (dk_at dksX2_readClaim_10 6 rfl rfl)
theorem dX2_readClaim_234 : decode cX2_readClaim 234 = .ok (.aload_n 0, 1) := dk_42 (dk_at dksX2_readClaim_10 7 rfl rfl)
theorem dX2_readClaim_235 : decode cX2_readClaim 235 = .ok (.getfield 371, 3) := dk_180 1 115 (dk_at dksX2_readClaim_10 8 rfl rfl)
theorem dX2_readClaim_238 : decode cX2_readClaim 238 = .ok (.iastore, 1) := dk_79 (dk_at dksX2_readClaim_10 11 rfl rfl)
theorem dX2_readClaim_239 : decode cX2_readClaim 239 = .ok (.aload_n 0, 1) := dk_42 (dk_at dksX2_readClaim_10 12 rfl rfl)
theorem dX2_readClaim_240 : decode cX2_readClaim 240 = .ok (.getfield 117, 3) := dk_180 0 117 (dk_at dksX2_readClaim_10 13 rfl rfl)
theorem dX2_readClaim_243 : decode cX2_readClaim 243 = .ok (.iload_n 1, 1) := dk_27 (dk_at dksX2_readClaim_10 16 rfl rfl)
theorem dX2_readClaim_244 : decode cX2_readClaim 244 = .ok (.bipush (-4), 2) := dk_16 252 (dk_at dksX2_readClaim_10 17 rfl rfl)
theorem dX2_readClaim_246 : decode cX2_readClaim 246 = .ok (.iastore, 1) := dk_79 (dk_at dksX2_readClaim_10 19 rfl rfl)
theorem dX2_readClaim_247 : decode cX2_readClaim 247 = .ok (.aload_n 0, 1) := dk_42 (dk_at dksX2_readClaim_10 20 rfl rfl)
theorem dX2_readClaim_248 : decode cX2_readClaim 248 = .ok (.getfield 120, 3) := dk_180 0 120 (dk_at dksX2_readClaim_10 21 rfl rfl)
theorem dX2_readClaim_251 : decode cX2_readClaim 251 = .ok (.iload_n 1, 1) := dk_27 (dk_at dksX2_readClaim_11 0 rfl rfl)
theorem dX2_readClaim_252 : decode cX2_readClaim 252 = .ok (.iload 4, 2) := dk_21 4 (dk_at dksX2_readClaim_11 1 rfl rfl)
theorem dX2_readClaim_254 : decode cX2_readClaim 254 = .ok (.iastore, 1) := dk_79 (dk_at dksX2_readClaim_11 3 rfl rfl)
theorem dX2_readClaim_255 : decode cX2_readClaim 255 = .ok (.iload_n 1, 1) := dk_27 (dk_at dksX2_readClaim_11 4 rfl rfl)
theorem dX2_readClaim_256 : decode cX2_readClaim 256 = .ok (.iconst 1, 1) := dk_4 (dk_at dksX2_readClaim_11 5 rfl rfl)
theorem dX2_readClaim_257 : decode cX2_readClaim 257 = .ok (.iadd, 1) := dk_96 (dk_at dksX2_readClaim_11 6 rfl rfl)
theorem dX2_readClaim_258 : decode cX2_readClaim 258 = .ok (.ireturn, 1) := dk_172 (dk_at dksX2_readClaim_11 7 rfl rfl)
abbrev cX2_readOn : ByteArray := prog_11_method_71_code
def yX2_readOn : MethodName := ⟨RX2, "readOn", "(I)I"⟩
def dkwX2_readOn_5 : List UInt8 := [160, 0, 7, 4, 167, 0, 4, 3, 62, 167, 255, 135, 28, 172]
abbrev dktX2_readOn_5 : List UInt8 := dkwX2_readOn_5 ++ []
def dkwX2_readOn_4 : List UInt8 := [154, 0, 12, 4, 42, 180, 1, 98, 120, 167, 0, 4, 3, 128, 61, 42, 182, 1, 109, 42, 180, 1, 88, 7]
abbrev dktX2_readOn_4 : List UInt8 := dkwX2_readOn_4 ++ dktX2_readOn_5
def dkwX2_readOn_3 : List UInt8 := [180, 1, 98, 122, 4, 126, 154, 0, 7, 4, 167, 0, 4, 3, 6, 182, 1, 101, 28, 42, 180, 1, 70]
abbrev dktX2_readOn_3 : List UInt8 := dkwX2_readOn_3 ++ dktX2_readOn_4
def dkwX2_readOn_2 : List UInt8 := [180, 1, 98, 27, 162, 0, 32, 42, 180, 0, 117, 42, 180, 1, 98, 46, 16, 252, 160, 0, 18, 28, 42]
abbrev dktX2_readOn_2 : List UInt8 := dkwX2_readOn_2 ++ dktX2_readOn_3
def dkwX2_readOn_1 : List UInt8 := [5, 160, 0, 7, 4, 167, 0, 4, 3, 5, 182, 1, 101, 42, 180, 1, 70, 154, 0, 46, 42, 42]
abbrev dktX2_readOn_1 : List UInt8 := dkwX2_readOn_1 ++ dktX2_readOn_2
def dkwX2_readOn_0 : List UInt8 := [3, 61, 4, 62, 29, 153, 0, 123, 42, 180, 1, 70, 154, 0, 116, 42, 182, 1, 109, 42, 42, 180, 1, 88]
abbrev dktX2_readOn_0 : List UInt8 := dkwX2_readOn_0 ++ dktX2_readOn_1
theorem dksX2_readOn_0 : cX2_readOn.data.toList.drop 0 = dktX2_readOn_0 := by decide +kernel
theorem dksX2_readOn_1 : cX2_readOn.data.toList.drop 24 = dktX2_readOn_1 := dk_seg dksX2_readOn_0 24 rfl rfl
theorem dksX2_readOn_2 : cX2_readOn.data.toList.drop 46 = dktX2_readOn_2 := dk_seg dksX2_readOn_1 22 rfl rfl
theorem dksX2_readOn_3 : cX2_readOn.data.toList.drop 69 = dktX2_readOn_3 := dk_seg dksX2_readOn_2 23 rfl rfl
theorem dksX2_readOn_4 : cX2_readOn.data.toList.drop 92 = dktX2_readOn_4 := dk_seg dksX2_readOn_3 23 rfl rfl
theorem dksX2_readOn_5 : cX2_readOn.data.toList.drop 116 = dktX2_readOn_5 := dk_seg dksX2_readOn_4 24 rfl rfl
theorem dX2_readOn_0 : decode cX2_readOn 0 = .ok (.iconst 0, 1) := dk_3 (dk_at dksX2_readOn_0 0 rfl rfl)
theorem dX2_readOn_1 : decode cX2_readOn 1 = .ok (.istore_n 2, 1) := dk_61 (dk_at dksX2_readOn_0 1 rfl rfl)
theorem dX2_readOn_2 : decode cX2_readOn 2 = .ok (.iconst 1, 1) := dk_4 (dk_at dksX2_readOn_0 2 rfl rfl)
theorem dX2_readOn_3 : decode cX2_readOn 3 = .ok (.istore_n 3, 1) := dk_62 (dk_at dksX2_readOn_0 3 rfl rfl)
theorem dX2_readOn_4 : decode cX2_readOn 4 = .ok (.iload_n 3, 1) := dk_29 (dk_at dksX2_readOn_0 4 rfl rfl)
theorem dX2_readOn_5 : decode cX2_readOn 5 = .ok (.ifCond .eq 123, 3) := dk_153 0 123 (dk_at dksX2_readOn_0 5 rfl rfl)
theorem dX2_readOn_8 : decode cX2_readOn 8 = .ok (.aload_n 0, 1) := dk_42 (dk_at dksX2_readOn_0 8 rfl rfl)
theorem dX2_readOn_9 : decode cX2_readOn 9 = .ok (.getfield 326, 3) := dk_180 1 70 (dk_at dksX2_readOn_0 9 rfl rfl)
theorem dX2_readOn_12 : decode cX2_readOn 12 = .ok (.ifCond .ne 116, 3) := dk_154 0 116 (dk_at dksX2_readOn_0 12 rfl rfl)
theorem dX2_readOn_15 : decode cX2_readOn 15 = .ok (.aload_n 0, 1) := dk_42 (dk_at dksX2_readOn_0 15 rfl rfl)
theorem dX2_readOn_16 : decode cX2_readOn 16 = .ok (.invokevirtual 365, 3) := dk_182 1 109 (dk_at dksX2_readOn_0 16 rfl rfl)
theorem dX2_readOn_19 : decode cX2_readOn 19 = .ok (.aload_n 0, 1) := dk_42 (dk_at dksX2_readOn_0 19 rfl rfl)
theorem dX2_readOn_20 : decode cX2_readOn 20 = .ok (.aload_n 0, 1) := dk_42 (dk_at dksX2_readOn_0 20 rfl rfl)
theorem dX2_readOn_21 : decode cX2_readOn 21 = .ok (.getfield 344, 3) := dk_180 1 88 (dk_at dksX2_readOn_0 21 rfl rfl)
theorem dX2_readOn_24 : decode cX2_readOn 24 = .ok (.iconst 2, 1) := dk_5 (dk_at dksX2_readOn_1 0 rfl rfl)
theorem dX2_readOn_25 : decode cX2_readOn 25 = .ok (.if_icmp .ne 7, 3) := dk_160 0 7 (dk_at dksX2_readOn_1 1 rfl rfl)
theorem dX2_readOn_28 : decode cX2_readOn 28 = .ok (.iconst 1, 1) := dk_4 (dk_at dksX2_readOn_1 4 rfl rfl)
theorem dX2_readOn_29 : decode cX2_readOn 29 = .ok (.goto 4, 3) := dk_167 0 4 (dk_at dksX2_readOn_1 5 rfl rfl)
theorem dX2_readOn_32 : decode cX2_readOn 32 = .ok (.iconst 0, 1) := dk_3 (dk_at dksX2_readOn_1 8 rfl rfl)
theorem dX2_readOn_33 : decode cX2_readOn 33 = .ok (.iconst 2, 1) := dk_5 (dk_at dksX2_readOn_1 9 rfl rfl)
theorem dX2_readOn_34 : decode cX2_readOn 34 = .ok (.invokevirtual 357, 3) := dk_182 1 101 (dk_at dksX2_readOn_1 10 rfl rfl)
theorem dX2_readOn_37 : decode cX2_readOn 37 = .ok (.aload_n 0, 1) := dk_42 (dk_at dksX2_readOn_1 13 rfl rfl)
theorem dX2_readOn_38 : decode cX2_readOn 38 = .ok (.getfield 326, 3) := dk_180 1 70 (dk_at dksX2_readOn_1 14 rfl rfl)
theorem dX2_readOn_41 : decode cX2_readOn 41 = .ok (.ifCond .ne 46, 3) := dk_154 0 46 (dk_at dksX2_readOn_1 17 rfl rfl)
theorem dX2_readOn_44 : decode cX2_readOn 44 = .ok (.aload_n 0, 1) := dk_42 (dk_at dksX2_readOn_1 20 rfl rfl)
theorem dX2_readOn_45 : decode cX2_readOn 45 = .ok (.aload_n 0, 1) := dk_42 (dk_at dksX2_readOn_1 21 rfl rfl)
theorem dX2_readOn_46 : decode cX2_readOn 46 = .ok (.getfield 354, 3) := dk_180 1 98 (dk_at dksX2_readOn_2 0 rfl rfl)
